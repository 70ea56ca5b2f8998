/-! THE PLAIN LAW: the walk over a single test -/
theorem ix3 : ∀ c, c < 128 → (0 ≤ ixL c [60, 62, 61] 0 ↔ c = 60 ∨ c = 62 ∨ c = 61) := by
  have key : ∀ c : Fin 128, (0 ≤ ixL c.val [60, 62, 61] 0 ↔ c.val = 60 ∨ c.val = 62 ∨ c.val = 61) := by decide +kernel
  exact fun c hc => key ⟨c, hc⟩
theorem sgO_no {c : Nat} (h1 : c ≠ 60) (h2 : c ≠ 62) (h3 : c ≠ 61) (h4 : c ≠ 316) (h5 : c ≠ 318) : sgO c = none := by
  unfold sgO
  rw [if_neg h1, if_neg h2, if_neg h3, if_neg h4, if_neg h5]
section SGT
variable {u : Nat → Nat} {sz j : Nat}
theorem sg_tok (hj : j ≤ nT u sz) (hk : kdT u sz j = 29 ∨ 33 < kdT u sz j) : ∃ c, (txT u sz j)[0]? = some c ∧ c < 128 ∧ ((¬ (c = 60 ∨ c = 62 ∨ c = 61) ∧ sgO (kdT u sz j) = none) ∨ ((c = 60 ∨ c = 62 ∨ c = 61) ∧ (txT u sz j).length ≤ 2 ∧ ∃ o, sgO (kdT u sz j) = some o ∧ (o ≠ 19 ∧ o ≠ 20 ∧ o ≠ 22) ∧ ∀ g, (∀ q e, (txT u sz j)[q]? = some e → g q = n3 e) → sgn (txT u sz j).length g o)) := by
  have hlt := tk_lt31 hj rfl (show kdT u sz j ≠ 32 by omega) (show kdT u sz j ≠ 33 by omega)
  rcases tk_cases hlt with ⟨k1, k2⟩ | ⟨k1, k2, k3, k4, k5⟩ | ⟨c', k1, k2, k3⟩ | ⟨c', k1, k2, k3⟩
  · omega
  · have := kwI_lt (txT u sz j)
    omega
  · have s := sym_not k1
    rw [k3, k2]
    refine ⟨c', rfl, by omega, ?_⟩
    by_cases c : c' = 60 ∨ c' = 62 ∨ c' = 61
    · refine Or.inr ⟨c, by show 1 ≤ 2; omega, ?_⟩
      rcases c with rfl | rfl | rfl
      · exact ⟨106, rfl, by decide, fun g hg => Or.inl ⟨rfl, hg 0 60 rfl, rfl⟩⟩
      · exact ⟨107, rfl, by decide, fun g hg => Or.inr (Or.inl ⟨rfl, hg 0 62 rfl, rfl⟩)⟩
      · exact ⟨108, rfl, by decide, fun g hg => Or.inr (Or.inr (Or.inl ⟨rfl, hg 0 61 rfl, rfl⟩))⟩
    · exact Or.inl ⟨c, sgO_no (fun q => c (Or.inl q)) (fun q => c (Or.inr (Or.inl q))) (fun q => c (Or.inr (Or.inr q))) (by omega) (by omega)⟩
  · rw [k3, k2]
    rcases k1 with rfl | rfl
    · exact ⟨60, rfl, by decide, Or.inr ⟨Or.inl rfl, by show 2 ≤ 2; omega, 109, rfl, by decide, fun g hg => Or.inr (Or.inr (Or.inr (Or.inl ⟨rfl, hg 0 60 rfl, hg 1 61 rfl, rfl⟩)))⟩⟩
    · exact ⟨62, rfl, by decide, Or.inr ⟨Or.inr (Or.inl rfl), by show 2 ≤ 2; omega, 110, rfl, by decide, fun g hg => Or.inr (Or.inr (Or.inr (Or.inr ⟨rfl, hg 0 62 rfl, hg 1 61 rfl, rfl⟩)))⟩⟩
end SGT
section WSI
variable {G : sd_G} {u : Nat → Nat} {sz n0 n1 tl so m rd k : Nat} {ta tx : Nat → Nat} {w : Int32} {ky nd iv : Nat → Nat} {kt : Nat → List Nat} {b : Nat × Nat} {h : sd_H} {d i j n D : Nat}
theorem c_den {o s : Nat} {x : Value} {Q : Unit → sd_H → Nat × Nat → Prop} (ho : h.2 o = some (.inr (19, [x]))) : wp (fX21_init G o s) h b Q = Q () (sd_up h o (.inr (19, [.ref s]))) b := by
  unfold fX21_init
  rw [wp_bnd, wp_put ho (Nat.le_of_ble_eq_true rfl) rfl rfl, wp_ret]
  rfl
theorem c_sen {o : Nat} {x : Value} {z : Int32} {Q : Unit → sd_H → Nat × Nat → Prop} (ho : h.2 o = some (.inr (20, [x]))) : wp (fX22_init G o z) h b Q = Q () (sd_up h o (.inr (20, [.int z]))) b := by
  unfold fX22_init
  rw [wp_bnd, wp_put ho (Nat.le_of_ble_eq_true rfl) rfl rfl, wp_ret]
  rfl
theorem c_sur {o s : Nat} {x : Value} {Q : Unit → sd_H → Nat × Nat → Prop} (ho : h.2 o = some (.inr (21, [x]))) : wp (fX23_init G o s) h b Q = Q () (sd_up h o (.inr (21, [.ref s]))) b := by
  unfold fX23_init
  rw [wp_bnd, wp_put ho (Nat.le_of_ble_eq_true rfl) rfl rfl, wp_ret]
  rfl
theorem c_cmp {o sg a a' : Nat} {x y z : Value} {Q : Unit → sd_H → Nat × Nat → Prop} (ho : h.2 o = some (.inr (22, [x, y, z]))) : wp (fX24_init G o sg a a') h b Q = Q () (sd_up h o (.inr (22, [.ref sg, .ref a, .ref a']))) b := by
  unfold fX24_init
  rw [wp_bnd, wp_put ho (Nat.le_of_ble_eq_true rfl) rfl rfl, wp_bnd, wp_put (up_at _ _ _) (Nat.le_of_ble_eq_true rfl) rfl rfl, wp_bnd, up_up, wp_put (up_at _ _ _) (Nat.le_of_ble_eq_true rfl) rfl rfl, wp_ret, up_up]
  rfl
/-- the string of a sign lies in a tree -/
theorem sg_Lp {s : Nat} (R : RW G u sz n0 tl ta tx rd w so m k ky nd iv kt n1 i d h) (hj : j ≤ nT u sz) (hk : 33 < kdT u sz j) (hl : (txT u sz j).length ≤ 2) : ∃ v hs hz g, Lp G (Rg n0 n1 rd (nmA u sz tx) s) h (tx j) (aS v hs hz) ∧ Lp G (Rg n0 n1 rd (nmA u sz tx) s) h v (aB (txT u sz j).length g) ∧ ∀ q e, (txT u sz j)[q]? = some e → g q = n3 e := by
  obtain ⟨t1, t2, t3⟩ := R.2.2.1.2 j (by omega)
  obtain ⟨⟨v, hs, hz, g, e1, e2, e3, -⟩, t4, t5⟩ := t3 (by omega) (by omega)
  have e1 := cut_in.mp e1
  have e2 := cut_in.mp e2
  have er := (RW_in R).2.1
  refine ⟨v, hs, hz, g, Or.inl ⟨e1.2, Or.inr ⟨e1.1, ?_, ?_, Or.inl ⟨t4, _, _, _, rfl⟩⟩⟩, Or.inl ⟨e2.2, Or.inr ⟨e2.1, ?_, ?_, Or.inr ⟨_, _, rfl, hl⟩⟩⟩, fun q e hq => (e3 q e hq).1⟩
  · intro q
    have e1 := e1.2
    rw [q, er] at e1
    cases e1
  · rintro ⟨j', q1, q2, q3⟩
    obtain ⟨-, -, s3⟩ := R.2.2.1.2 j' (by omega)
    obtain ⟨-, -, s5⟩ := s3 (by omega) (by omega)
    rcases Nat.lt_trichotomy j j' with q | q | q
    · have := s5 j q (by omega) (by omega)
      omega
    · subst q
      omega
    · have := t5 j' q (by omega) (by omega)
      omega
  · intro q
    have e2 := e2.2
    rw [q, er] at e2
    cases e2
  · intro q
    obtain ⟨v', hs', hz', q'⟩ := nmA_s (RW_in R).1 _ _ q e2.2
    cases q'
theorem w_single (C : wlC G) (hiv : ∀ j, j < k → sd_c G (iv j) = some (.inr (47, [.int (n3 j)])))
    (A0 : ∀ i d r h, i ≤ nT u sz → d ≤ 8 → 3 * (8 - d) + 3 ≤ D → pE (kdT u sz) (vlT u sz) n 0 i d = some r → okw w r → PW G u sz n0 tl ta tx rd w so m k ky nd iv kt n1 ((pRP G D).2.2.2.1 rd) 40 0 (fun s h' a j ws => isSm (neF w k) (Lp G (Rg n0 n1 rd (nmA u sz tx) s) h') (j - i) (9 - d) a ws) i d r h)
    (A5 : ∀ i d r h, i ≤ nT u sz → d ≤ 8 → 3 * (8 - d) + 6 ≤ D → pE (kdT u sz) (vlT u sz) n 5 i d = some r → okw w r → PW G u sz n0 tl ta tx rd w so m k ky nd iv kt n1 ((pRP G D).1 rd) 10 3 (fun s h' a j ws => isTs (neF w k) (Lp G (Rg n0 n1 rd (nmA u sz tx) s) h') (3 + 2 * (8 - d)) a ws) i d r h)
    (A9 : ∀ i d r h, i ≤ nT u sz → d ≤ 8 → 3 * (8 - d) + 4 ≤ D → pE (kdT u sz) (vlT u sz) n 9 i d = some r → okw w r → PW G u sz n0 tl ta tx rd w so m k ky nd iv kt n1 ((pRP G D).2.2.1 rd) 30 5 (fun s h' a j ws => isTs (neF w k) (Lp G (Rg n0 n1 rd (nmA u sz tx) s) h') (1 + 2 * (8 - d)) a ws) i d r h) :
    ∀ i d r h, i ≤ nT u sz → d ≤ 8 → 3 * (8 - d) + 4 ≤ D + 1 → pE (kdT u sz) (vlT u sz) (n + 1) 9 i d = some r → okw w r → PW G u sz n0 tl ta tx rd w so m k ky nd iv kt n1 ((pRP G (D + 1)).2.2.1 rd) 30 5 (fun s h' a j ws => isTs (neF w k) (Lp G (Rg n0 n1 rd (nmA u sz tx) s) h') (1 + 2 * (8 - d)) a ws) i d r h := by
  intro i d r h hi hd hD hp ow b β v Q R hb hv kf ks
  have hp : pSin (kdT u sz) (pE (kdT u sz) (vlT u sz) n) i d = some r := hp
  have ks : ∀ j ws ks a h' b', r = .inl (j, ws, ks) → fo (wkF w k kt u sz) r = none → RW G u sz n0 tl ta tx rd w so m k ky nd iv kt n1 j d h' → isTs (neF w k) (Lp G (Rg n0 n1 rd (nmA u sz tx) h.1) h') (1 + 2 * (8 - d)) a (res (wkF w k kt u sz) ws) → xf rd (nmA u sz tx) h h' → bud β b' (50 * (nT u sz + 1 - j) + 5) → Q (.inl a) h' b' := ks
  have lN := nT_le (u := u) (sz := sz)
  have hb1 := hb.1
  have hb2 := hb.2
  have l1 := R.2.1
  unfold pSin at hp
  show wp (fX7_single G (pRP G D) rd) h b Q
  unfold fX7_single
  rw [w_nis C R hi (n := 125) (c := 24) (by decide)]
  by_cases e24 : kdT u sz i = 24
  · -- not
    have hi1 := tk_lt31 hi e24 (by decide) (by decide)
    rw [if_pos e24] at hp
    rw [if_pos e24, wp_ite, if_neg (by decide)]
    refine w_deep C R hi hd (n := 125) (c := 24) (by decide) hb (by omega) (fun h2 e2 e8 R2 X2 nh2 => ?_) (fun e2 => ?_)
    · rw [if_neg e8] at hp
      obtain ⟨r0, e0, ow0, pf0, nx0⟩ := sqc_go (wk := (wkF w k kt u sz)) wk_tot hp ow
      rw [wp_bnd]
      refine wp_new (by omega) (by omega) ?_
      rw [wp_bnd, w_isC (RW_pu R2)]
      refine PW_bx (v := v - 5) (A9 (i + 1) (d + 1) r0 _ hi1 (by omega) (by omega) e0 ow0) (RW_pu R2) (bud_new (c := 1) hb (by omega) (by omega)) (by omega) (FK_sub kf pf0 (X2.trans (xf_pu R2.1))) (fun j ws ks' a' h3 b3 q1 q2 R3 T3 X3 B3 => ?_)
      obtain ⟨r', g1, g2, g3, g4⟩ := nx0 j ws ks' q1 q2
      unfold prW at g1
      cases g1
      have okj : i + 1 + 1 ≤ j ∧ j ≤ nT u sz := by
        have := pE_ok tkT n 9 (i + 1) (d + 1) r0 hi1 e0
        rw [q1] at this
        exact ⟨this.1, this.2.1⟩
      have o3 := RW_mk R2 X3
      have l2 := R2.2.1
      have R4 : RW G u sz n0 tl ta tx rd w so m k ky nd iv kt n1 j (d + 1) (sd_up h3 h2.1 (.inr (19, [.ref a']))) := RW_up R3 o3 l2
      have X4 : xf rd (nmA u sz tx) h (sd_up h3 h2.1 (.inr (19, [.ref a']))) := xf_upn R.1 (X2.trans ((xf_pu R2.1).trans X3)) (by omega)
      rw [wp_bnd, c_den o3, wp_bnd, (rd_rd (RW_in R4).2.1).2.2.1, wp_bnd, wp_put (RW_in R4).2.1 (Nat.le_of_ble_eq_true rfl) rfl rfl, wp_ret, show n3 (d + 1) - 1 = n3 d from n3_sub (a := d + 1) (b := 1) (by omega)]
      have R5 : RW G u sz n0 tl ta tx rd w so m k ky nd iv kt n1 j d (sd_up (sd_up h3 h2.1 (.inr (19, [.ref a']))) rd (aRd tl j d w so m)) := RW_rd R4
      have X5 : xf rd (nmA u sz tx) (sd_up h3 h2.1 (.inr (19, [.ref a']))) (sd_up (sd_up h3 h2.1 (.inr (19, [.ref a']))) rd (aRd tl j d w so m)) := xf_up
      refine ks j _ _ h2.1 _ _ g3 (g4.trans rfl) R5 ?_ (X4.trans X5) B3
      rw [res_app, res_1 (by decide) (by decide) (by decide), show 1 + 2 * (8 - d) = 2 * (8 - d) + 1 by omega]
      have o5 := X5.2.1 _ _ (up_at h3 h2.1 (.inr (19, [.ref a']))) (RW_nw R4 l2).1 (RW_nw R4 l2).2
      refine Or.inr (Or.inl ⟨a', res (wkF w k kt u sz) ws, Or.inl ⟨o5, Or.inl (by omega)⟩, ?_, rfl⟩)
      exact isTs_mono (fun a e he => Lp_xf R4 (by omega) (Nat.le_refl _) X5 a e (Lp_up l2 (Nat.lt_succ_self _) (by show h.1 ≤ h2.1 + 1; omega) a e he)) (Nat.le_refl _) _ _ _ _ (by omega) T3
    · rw [if_pos (e2.resolve_left (fun q => q e24))] at hp
      cases hp
      exact kf
  · rw [if_neg e24] at hp
    rw [if_neg e24, wp_ite, if_pos rfl, w_nis C R hi (n := 126) (c := 91) (by decide)]
    by_cases e91 : kdT u sz i = 91
    · -- in brackets
      have hi1 := tk_lt31 hi e91 (by decide) (by decide)
      rw [if_pos e91] at hp
      rw [if_pos e91, wp_ite, if_neg (by decide)]
      refine w_deep C R hi hd (n := 126) (c := 91) (by decide) hb (by omega) (fun h2 e2 e8 R2 X2 nh2 => ?_) (fun e2 => ?_)
      · rw [if_neg e8] at hp
        obtain ⟨r0, e0, ow0, pf0, nx0⟩ := sqc_go (wk := (wkF w k kt u sz)) wk_tot hp ow
        rw [wp_bnd, w_isC R2]
        refine PW_bx (A5 (i + 1) (d + 1) r0 h2 hi1 (by omega) (by omega) e0 ow0) R2 hb (by omega) (FK_sub kf pf0 X2) (fun j ws ks' a' h3 b3 q1 q2 R3 T3 X3 B3 => ?_)
        obtain ⟨r', g1, g2, g3, g4⟩ := nx0 j ws ks' q1 q2
        have okj : i + 1 + 1 ≤ j ∧ j ≤ nT u sz := by
          have := pE_ok tkT n 5 (i + 1) (d + 1) r0 hi1 e0
          rw [q1] at this
          exact ⟨this.1, this.2.1⟩
        have kf3 : FK G u sz tx rd (wkF w k kt u sz) r' h3 β Q := FK_sub kf (fun e he => by rw [g4]; exact he) (X2.trans X3)
        refine w_close C R3 okj.2 (n := 127) (c := 93) (by decide) B3 (by omega) (fun h4 e4 R4 X4 nh4 => ?_) (fun e4 => by rw [← prT_neg g1 e4]; exact kf3)
        have g1 := prT_pos g1 e4
        cases g1
        rw [wp_ret]
        refine ks (j + 1) (ws ++ []) (ks' ++ []) a' h4 b3 g3 (g4.trans rfl) R4 ?_ (X2.trans (X3.trans X4)) (bud_le B3 (by omega))
        rw [List.append_nil]
        exact isTs_mono (Lp_xf R3 (by omega) (by omega) X4) (Nat.le_refl _) _ _ _ _ (by omega) T3
      · rw [if_pos (e2.resolve_left (fun q => q e91))] at hp
        cases hp
        exact kf
    · rw [if_neg e91] at hp
      rw [if_neg e91, wp_ite, if_pos rfl, wp_bnd, w_isC R, wp_bnd]
      refine w_tif C R hi (n := 128) (c := 22) (by decide) (fun h1 e R1 X1 nh1 => ?_) (fun e22 => ?_)
      · -- seen
        have hi1 := tk_lt31 hi e (by decide) (by decide)
        rw [if_pos e] at hp
        rw [wp_ite, if_neg (by decide), wp_bnd]
        refine wp_new (by omega) (by omega) ?_
        have R2 : RW G u sz n0 tl ta tx rd w so m k ky nd iv kt n1 (i + 1) d (sd_pu h1 (.inr (20, [.int 0]))) := RW_pu R1
        have kf2 : FK G u sz tx rd (wkF w k kt u sz) r (sd_pu h1 (.inr (20, [.int 0]))) β Q := FK_sub kf (fun _ q => q) (X1.trans (xf_pu R1.1))
        have hb' : bud β (b.1 - 1, b.2 - 1) (v - 5) := bud_new (c := 1) hb (by omega) (by omega)
        rw [wp_bnd, (rd_rd (RW_in R2).2.1).2.2.2.2.2.1]
        refine w_known C hiv R2 hi1 hb' (by omega) (fun t h4 e4 e5 R4 X4 nh4 => ?_) (fun e4 => by rw [← prT_neg hp e4]; exact kf2) (fun e4 e5 h' q b' p1 p2 p3 p4 => ?_)
        · have hp := prT_pos hp e4
          cases hp
          have fon : fo (wkF w k kt u sz) (.inl (i + 2, [(22, n3 (i + 1))], [i + 1])) = none := by
            show ((List.find? (fun j => (wkF w k kt u sz j).isNone) [i + 1]).map _) = none
            rw [List.find?_cons_of_neg (by rw [e5]; exact Bool.false_ne_true)]
            rfl
          have o4 := RW_mk R1 X4
          rw [wp_bnd, c_sen o4, wp_ret]
          refine ks (i + 2) _ [i + 1] h1.1 _ _ rfl fon (RW_up R4 o4 R1.2.1) ?_ (xf_upn R.1 (X1.trans ((xf_pu R1.1).trans X4)) (by omega)) (bud_le hb' (by omega))
          have er : res (wkF w k kt u sz) [(22, n3 (i + 1))] = [(22, n3 t)] := by
            show [resR (wkF w k kt u sz) _] = _
            unfold resR
            rw [if_pos (Or.inr (Or.inr rfl))]
            show [((22 : Int32), n3 ((wkF w k kt u sz (n3 (i + 1)).toNatClampNeg).getD 0))] = _
            rw [n3_nn (by omega), e5]
            rfl
          rw [er, show 1 + 2 * (8 - d) = 2 * (8 - d) + 1 by omega]
          exact Or.inr (Or.inr (Or.inl ⟨_, Or.inl ⟨up_at _ _ _, Or.inl (by omega)⟩, rfl⟩))
        · have hp := prT_pos hp e4
          cases hp
          refine kf 3 (i + 1) h' q b' ?_ p1 p2 (X1.trans ((xf_pu R1.1).trans p3)) p4
          show ((List.find? (fun j => (wkF w k kt u sz j).isNone) [i + 1]).map _) = _
          rw [List.find?_cons_of_pos (by rw [e5]; rfl)]
          rfl
      · rw [if_neg e22] at hp
        rw [wp_ite, if_pos rfl, wp_bnd, w_isC R, wp_bnd]
        refine w_tif C R hi (n := 129) (c := 23) (by decide) (fun h1 e R1 X1 nh1 => ?_) (fun e23 => ?_)
        · -- sure
          have hi1 := tk_lt31 hi e (by decide) (by decide)
          rw [if_pos e] at hp
          obtain ⟨r0, e0, ow0, pf0, nx0⟩ := sqc_go (wk := (wkF w k kt u sz)) wk_tot hp ow
          rw [wp_ite, if_neg (by decide), wp_bnd]
          refine wp_new (by omega) (by omega) ?_
          have hb' : bud β (b.1 - 1, b.2 - 1) (v - 6 + 5) := bud_new (c := 1) hb (by omega) (by omega)
          rw [wp_bnd, w_isC (RW_pu R1)]
          refine PW_bx (v := v - 6) (A0 (i + 1) d r0 _ hi1 hd (by omega) e0 ow0) (RW_pu R1) (bud_sh.mp hb') (by omega) (FK_be (FK_sub kf pf0 (X1.trans (xf_pu R1.1)))) (fun j ws ks' a' h3 b3 q1 q2 R3 T3 X3 B3 => ?_)
          obtain ⟨r', g1, g2, g3, g4⟩ := nx0 j ws ks' q1 q2
          unfold prW at g1
          cases g1
          have okj : i + 1 + 1 ≤ j ∧ j ≤ nT u sz := by
            have := pE_ok tkT n 0 (i + 1) d r0 hi1 e0
            rw [q1] at this
            exact ⟨this.1, this.2.1⟩
          have o3 := RW_mk R1 X3
          have l2 := R1.2.1
          rw [wp_bnd, c_sur o3, wp_ret]
          refine ks j _ _ h1.1 _ _ g3 (g4.trans rfl) (RW_up R3 o3 l2) ?_ (xf_upn R.1 (X1.trans ((xf_pu R1.1).trans X3)) (by omega)) (bud_sh.mpr B3)
          rw [res_app, res_1 (by decide) (by decide) (by decide), show 1 + 2 * (8 - d) = 2 * (8 - d) + 1 by omega]
          refine Or.inr (Or.inr (Or.inr (Or.inl ⟨a', res (wkF w k kt u sz) ws, Or.inl ⟨up_at _ _ _, Or.inl (by omega)⟩, ?_, rfl⟩)))
          exact isSm_mono (Lp_up l2 (Nat.lt_succ_self _) (by show h.1 ≤ h1.1 + 1; omega)) (Nat.le_refl _) _ _ _ _ _ _ (by omega) (by omega) T3
        · -- two sums compared
          rw [if_neg e23] at hp
          obtain ⟨r0, e0, ow0, pf0, nx0⟩ := sqc_go (wk := (wkF w k kt u sz)) wk_tot hp ow
          rw [wp_ite, if_pos rfl, wp_bnd, w_isC R]
          refine PW_bx (A0 i d r0 h hi hd (by omega) e0 ow0) R hb (by omega) (FK_sub kf pf0 xf.refl) (fun j ws ks' a' h3 b3 q1 q2 R3 T3 X3 B3 => ?_)
          obtain ⟨r', g1, g2, g3, g4⟩ := nx0 j ws ks' q1 q2
          have okj : i + 1 ≤ j ∧ j ≤ nT u sz := by
            have := pE_ok tkT n 0 i d r0 hi e0
            rw [q1] at this
            exact ⟨this.1, this.2.1⟩
          have kf3 : FK G u sz tx rd (wkF w k kt u sz) r' h3 β Q := FK_sub kf (fun e he => by rw [g4]; exact he) X3
          have B3b := B3.1
          have B3c := B3.2
          have bad : sgO (kdT u sz j) = none → wp (sd_bnd (sd_isC G 6 rd) fun _ => sd_bnd (fX7_wrong G rd) fun r4 => sd_bnd (sd_own r4) fun k17 => if k17 = 9 then sd_ret (.inr r4) else sd_fail) h3 b3 Q := by
            intro q
            rw [q] at g1
            cases g1
            exact w_wrong R3 okj.2 B3 (by omega) kf3
          rw [wp_bnd, w_isC R3, wp_bnd, c_now (RW_in R3).1 (RW_in R3).2.1 okj.2, wp_bnd, (tk_rd (RW_in R3).1 okj.2).1, wp_ite]
          by_cases e6 : kdT u sz j = 29 ∨ 33 < kdT u sz j
          · rw [if_pos ((srt_eq C.1 _).2.2.2.2.2.mpr e6)]
            obtain ⟨c, c1, c2, c3⟩ := sg_tok okj.2 e6
            have hjl := tk_lt31 okj.2 rfl (show kdT u sz j ≠ 32 by omega) (show kdT u sz j ≠ 33 by omega)
            have H := (((RW_in R3).1.2 j (by omega)).2.2 (by omega) (by omega)).1
            have H130 : strH G h3 (sd_ad G 130) [60, 62, 61] := strC_H R3.1 C.2.1.2 (by decide) (by decide)
            have chr : ∀ b (Q : Int32 → sd_H → Nat × Nat → Prop), wp (fJ14_charAt G (tx j) 0) h3 b Q = Q (n3 c) h3 b := fun b Q => strH_chr (k := 0) (strN_H H) c1
            rw [wp_bnd, (tk_rd (RW_in R3).1 okj.2).2.1, wp_bnd, strH_isC (strN_H H), wp_bnd, chr, wp_bnd, strH_isC H130, wp_bnd, j_ixL H130 (by omega), wp_ite]
            rcases c3 with ⟨d1, d2⟩ | ⟨d1, d2, o, d3, d4, d5⟩
            · rw [if_neg (fun q => d1 ((ix3 c c2).mp q))]
              exact bad d2
            · rw [if_pos ((ix3 c c2).mpr d1)]
              rw [d3] at g1
              have k33 : 33 < kdT u sz j := by
                rcases e6 with q | q
                · rw [q] at d3
                  cases d3
                · exact q
              obtain ⟨r2, e2, ow2, pf2, nx2⟩ := sqc_go (wk := (wkF w k kt u sz)) wk_tot g1 g2
              rw [wp_bnd, (rd_rd (RW_in R3).2.1).2.1, wp_bnd, wp_put (RW_in R3).2.1 (Nat.le_of_ble_eq_true rfl) rfl rfl, show n3 j + 1 = n3 (j + 1) from n3_add j 1]
              have R4 : RW G u sz n0 tl ta tx rd w so m k ky nd iv kt n1 (j + 1) d (sd_up h3 rd (aRd tl (j + 1) d w so m)) := RW_rd R3
              have X4 : xf rd (nmA u sz tx) h3 (sd_up h3 rd (aRd tl (j + 1) d w so m)) := xf_up
              have nh4 : (sd_up h3 rd (aRd tl (j + 1) d w so m)).1 = h3.1 := rfl
              show wp (sd_bnd (sd_new 22 3 [.null, .null, .null]) _) (sd_up h3 rd (aRd tl (j + 1) d w so m)) b3 Q
              generalize sd_up h3 rd (aRd tl (j + 1) d w so m) = h4 at R4 X4 nh4 ⊢
              rw [wp_bnd]
              refine wp_new (by omega) (by omega) ?_
              have R5 : RW G u sz n0 tl ta tx rd w so m k ky nd iv kt n1 (j + 1) d (sd_pu h4 (.inr (22, [.null, .null, .null]))) := RW_pu R4
              rw [wp_bnd, (tk_rd (RW_in R5).1 okj.2).2.1, wp_bnd, w_isC R5]
              have hb' : bud β (b3.1 - 1, b3.2 - 3) (50 * (nT u sz + 1 - j) - 6 + 5) := bud_new (c := 1) B3 (by omega) (by omega)
              refine PW_bx (v := 50 * (nT u sz + 1 - j) - 6) (A0 (j + 1) d r2 _ hjl hd (by omega) e2 ow2) R5 (bud_sh.mp hb') (by omega) (FK_be (FK_sub kf3 pf2 (X4.trans (xf_pu R4.1)))) (fun j2 ws2 ks2 a2 h6 b6 p1 p2 R6 T6 X6 B6 => ?_)
              obtain ⟨r3, f1, f2, f3, f4⟩ := nx2 j2 ws2 ks2 p1 p2
              unfold prW at f1
              cases f1
              have okj2 : j + 1 + 1 ≤ j2 ∧ j2 ≤ nT u sz := by
                have := pE_ok tkT n 0 (j + 1) d r2 hjl e2
                rw [p1] at this
                exact ⟨this.1, this.2.1⟩
              have o6 := RW_mk R4 X6
              have l4 := R4.2.1
              have R7 : RW G u sz n0 tl ta tx rd w so m k ky nd iv kt n1 j2 d (sd_up h6 h4.1 (.inr (22, [.ref (tx j), .ref a', .ref a2]))) := RW_up R6 o6 l4
              have X37 : xf rd (nmA u sz tx) h3 (sd_up h6 h4.1 (.inr (22, [.ref (tx j), .ref a', .ref a2]))) := xf_upn R3.1 (X4.trans ((xf_pu R4.1).trans X6)) (by omega)
              have z3 := X3.1
              rw [wp_bnd, c_cmp o6, wp_ret]
              have er : r = .inl (j2, ws ++ (ws2 ++ [(o, 0)]), ks' ++ (ks2 ++ [])) := by rw [g3, f3]; rfl
              refine ks j2 _ _ h4.1 _ _ er (g4.trans (f4.trans rfl)) R7 ?_ (X3.trans X37) (bud_sh.mpr B6)
              rw [res_app, res_app, res_1 d4.1 d4.2.1 d4.2.2, ← List.append_assoc, show 1 + 2 * (8 - d) = 2 * (8 - d) + 1 by omega]
              obtain ⟨vv, hs, hz, g, v1, v2, v3⟩ := sg_Lp (s := h.1) R7 okj.2 k33 d2
              refine Or.inr (Or.inr (Or.inr (Or.inr ⟨tx j, vv, hs, hz, _, g, a', a2, res (wkF w k kt u sz) ws, res (wkF w k kt u sz) ws2, o, Or.inl ⟨up_at _ _ _, Or.inl (by omega)⟩, v1, v2, d5 g v3, ?_, ?_, rfl⟩)))
              · exact isSm_mono (Lp_xf R3 (by omega) (Nat.le_refl _) X37) (Nat.le_refl _) _ _ _ _ _ _ (by omega) (by omega) T3
              · exact isSm_mono (Lp_up l4 (Nat.lt_succ_self _) (by show h.1 ≤ h4.1 + 1; omega)) (Nat.le_refl _) _ _ _ _ _ _ (by omega) (by omega) T6
          · rw [if_neg (fun q => e6 ((srt_eq C.1 _).2.2.2.2.2.mp q))]
            exact bad (sgO_no (by omega) (by omega) (by omega) (by omega) (by omega))
end WSI
