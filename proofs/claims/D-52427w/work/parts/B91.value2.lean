/-! THE PLAIN LAW: the walk over a value, all of it -/
section WV2
variable {G : sd_G} {u : Nat → Nat} {sz n0 n1 tl so m rd k : Nat} {ta tx : Nat → Nat} {w : Int32} {ky nd iv : Nat → Nat} {kt : Nat → List Nat} {b : Nat × Nat} {h : sd_H} {d n D : Nat}
theorem c_pln {o : Nat} {x : Value} {z : Int32} {Q : Unit → sd_H → Nat × Nat → Prop} (ho : h.2 o = some (.inr (12, [x]))) : wp (fX14_init G o z) h b Q = Q () (sd_up h o (.inr (12, [.int z]))) b := by
  unfold fX14_init fX13_init
  rw [wp_bnd, wp_ret, wp_bnd, wp_put ho (Nat.le_of_ble_eq_true rfl) rfl rfl, wp_ret]
  rfl
theorem c_ask {o wa : Nat} {x y : Value} {z : Int32} {Q : Unit → sd_H → Nat × Nat → Prop} (ho : h.2 o = some (.inr (13, [x, y]))) : wp (fX15_init G o wa z) h b Q = Q () (sd_up h o (.inr (13, [.ref wa, .int z]))) b := by
  unfold fX15_init fX13_init
  rw [wp_bnd, wp_ret, wp_bnd, wp_put ho (Nat.le_of_ble_eq_true rfl) rfl rfl, wp_bnd, wp_put (up_at _ _ _) (Nat.le_of_ble_eq_true rfl) rfl rfl, wp_ret, up_up]
  rfl
theorem c_hgt {o s : Nat} {x : Value} {Q : Unit → sd_H → Nat × Nat → Prop} (ho : h.2 o = some (.inr (14, [x]))) : wp (fX16_init G o s) h b Q = Q () (sd_up h o (.inr (14, [.ref s]))) b := by
  unfold fX16_init fX13_init
  rw [wp_bnd, wp_ret, wp_bnd, wp_put ho (Nat.le_of_ble_eq_true rfl) rfl rfl, wp_ret]
  rfl
theorem c_trn {o s : Nat} {x : Value} {Q : Unit → sd_H → Nat × Nat → Prop} (ho : h.2 o = some (.inr (15, [x]))) : wp (fX17_init G o s) h b Q = Q () (sd_up h o (.inr (15, [.ref s]))) b := by
  unfold fX17_init fX13_init
  rw [wp_bnd, wp_ret, wp_bnd, wp_put ho (Nat.le_of_ble_eq_true rfl) rfl rfl, wp_ret]
  rfl
theorem w_value (C : wlC G) (hiv : ∀ j, j < k → sd_c G (iv j) = some (.inr (47, [.int (n3 j)])))
    (A0 : ∀ i d r h, i ≤ nT u sz → d ≤ 8 → 3 * (8 - d) + 3 ≤ D → pE (kdT u sz) (vlT u sz) n 0 i d = some r → okw w r → PW G u sz n0 tl ta tx rd w so m k ky nd iv kt n1 ((pRP G D).2.2.2.1 rd) 40 0 (fun s h' a j ws => isSm (neF w k) (Lp G (Rg n0 n1 rd (nmA u sz tx) s) h') (j - i) (9 - d) a ws) i d r h)
    (A4 : ∀ i d r h, i ≤ nT u sz → d ≤ 8 → 3 * (8 - d) + 1 ≤ D → pE (kdT u sz) (vlT u sz) n 4 i d = some r → okw w r → PW G u sz n0 tl ta tx rd w so m k ky nd iv kt n1 ((pRP G D).2.2.2.2.2 rd) 40 0 (fun s h' a j ws => isSm (neF w k) (Lp G (Rg n0 n1 rd (nmA u sz tx) s) h') (j - i) (9 - d) a ws) i d r h) :
    ∀ i d r h, i ≤ nT u sz → d ≤ 8 → 3 * (8 - d) + 1 ≤ D + 1 → pE (kdT u sz) (vlT u sz) (n + 1) 4 i d = some r → okw w r → PW G u sz n0 tl ta tx rd w so m k ky nd iv kt n1 ((pRP G (D + 1)).2.2.2.2.2 rd) 40 0 (fun s h' a j ws => isSm (neF w k) (Lp G (Rg n0 n1 rd (nmA u sz tx) s) h') (j - i) (9 - d) a ws) i d r h := by
  intro i d r h hi hd hD hp ow b β v Q R hb hv kf ks
  have hp : pVal (kdT u sz) (vlT u sz) (pE (kdT u sz) (vlT u sz) n) i d = some r := hp
  have ks : ∀ j ws ks a h' b', r = .inl (j, ws, ks) → fo (wkF w k kt u sz) r = none → RW G u sz n0 tl ta tx rd w so m k ky nd iv kt n1 j d h' → isSm (neF w k) (Lp G (Rg n0 n1 rd (nmA u sz tx) h.1) h') (j - i) (9 - d) a (res (wkF w k kt u sz) ws) → xf rd (nmA u sz tx) h h' → bud β b' (50 * (nT u sz + 1 - j) + 0) → Q (.inl a) h' b' := ks
  have lN := nT_le (u := u) (sz := sz)
  have hb1 := hb.1
  have hb2 := hb.2
  have l1 := R.2.1
  unfold pVal at hp
  show wp (fX7_value G (pRP G D) rd) h b Q
  unfold fX7_value
  rw [wp_bnd, w_isC R, wp_bnd, c_now (RW_in R).1 (RW_in R).2.1 hi, wp_bnd, (tk_rd (RW_in R).1 hi).1, wp_ite]
  by_cases e31 : kdT u sz i = 31
  · rw [if_pos ((srt_eq C.1 _).2.2.1.mpr e31), wp_bnd]
    rw [if_neg (by omega), if_neg (by omega), if_neg (by omega), if_neg (by omega), if_neg (by omega), if_pos e31] at hp
    cases hp
    have hi1 := tk_lt31 hi e31 (by decide) (by decide)
    refine wp_new (by omega) (by omega) ?_
    have R1 : RW G u sz n0 tl ta tx rd w so m k ky nd iv kt n1 i d (sd_pu h (.inr (12, [.int 0]))) := RW_pu R
    rw [wp_bnd, w_isC R1, wp_bx]
    refine c_takeS (k := 31) R1.1 (RW_in R1).1 (RW_in R1).2.1 hi (srt_eq C.1 _).2.2.1 (by show 1 ≤ b.1 - 1; omega) (by show 8 ≤ b.2 - 1; omega) (fun _ => ?_) (fun q => absurd e31 q)
    have R2 : RW G u sz n0 tl ta tx rd w so m k ky nd iv kt n1 (i + 1) d (sd_up (sd_pu h (.inr (12, [.int 0]))) rd (aRd tl (i + 1) d w so m)) := RW_rd R1
    have X2 : xf rd (nmA u sz tx) (sd_pu h (.inr (12, [.int 0]))) (sd_up (sd_pu h (.inr (12, [.int 0]))) rd (aRd tl (i + 1) d w so m)) := xf_up
    have o2 := RW_mk R X2
    show wp (sd_bnd (sd_isC G 8 (ta i)) _) _ _ Q
    rw [wp_bnd, (tk_rd (RW_in R2).1 hi).2.2.2.1, wp_bnd, c_num (RW_in R2).1 hi1 e31, wp_bnd, c_pln o2, wp_ret]
    refine ks (i + 1) _ [] h.1 _ _ rfl rfl (RW_up R2 o2 l1) ?_ (xf_upn R.1 ((xf_pu R.1).trans X2) (Nat.le_refl _)) (bud_new (c := 1) hb (by omega) (by omega))
    rw [res_1 (by decide) (by decide) (by decide), show i + 1 - i = 0 + 1 by omega]
    exact Or.inl ⟨_, Or.inl ⟨up_at _ _ _, Or.inl (Nat.le_refl _)⟩, rfl⟩
  · rw [if_neg (fun q => e31 ((srt_eq C.1 _).2.2.1.mp q))]
    obtain ⟨f, W1, W2⟩ := C.2.2.1
    have wl := look_k R.1 W1
    rw [wp_bnd, wp_alen wl]
    have loop : ∀ q j, q + j = 6 → (∀ j', j' < j → kdT u sz i ≠ 15 + j') → ∀ fuel, q < fuel → wp (sd_loop (fun k s => fX7_value_b40 G (pRP G D) k s.1 s.2.1 s.2.2.1 s.2.2.2) fuel (rd, sd_ad G 10, n3 6, n3 j)) h b Q := by
      intro q
      induction q with
      | zero =>
        intro j hj hne fuel hf
        cases fuel with
        | zero => omega
        | succ fuel =>
          have j6 : j = 6 := by omega
          subst j6
          have m0 := hne 0 (by omega)
          have m1 := hne 1 (by omega)
          have m2 := hne 2 (by omega)
          have m3 := hne 3 (by omega)
          have m4 := hne 4 (by omega)
          have m5 := hne 5 (by omega)
          show wp (fX7_value_b40 G (pRP G D) (sd_loop _ fuel) rd (sd_ad G 10) (n3 6) (n3 6)) h b Q
          unfold fX7_value_b40
          rw [wp_ite, if_pos (by decide), wp_bnd, w_isC R, wp_bnd]
          refine w_tif C R hi (n := 117) (c := 21) (by decide) (fun h1 e R1 X1 nh1 => ?_) (fun e21 => ?_)
          · -- height
            have hi1 := tk_lt31 hi e (by decide) (by decide)
            rw [if_neg (by omega), if_neg (by omega), if_neg (by omega), if_neg (by omega), if_pos e] at hp
            rw [wp_ite, if_neg (by decide)]
            refine w_deep C R1 hi1 hd (n := 118) (c := 40) (by decide) hb (by omega) (fun h2 e2 e8 R2 X2 nh2 => ?_) (fun e2 => ?_)
            · have hi2 := tk_lt31 hi1 e2 (by decide) (by decide)
              rw [if_neg (by rintro (q | q); exact e8 q; exact q e2)] at hp
              obtain ⟨r0, e0, ow0, pf0, nx0⟩ := sqc_go (wk := (wkF w k kt u sz)) wk_tot hp ow
              rw [wp_bnd, w_isC R2]
              refine PW_bx (A0 (i + 2) (d + 1) r0 h2 hi2 (by omega) (by omega) e0 ow0) R2 hb (by omega) (FK_sub kf pf0 (X1.trans X2)) (fun j ws ks' a' h3 b3 q1 q2 R3 T3 X3 B3 => ?_)
              obtain ⟨r', g1, g2, g3, g4⟩ := nx0 j ws ks' q1 q2
              have okj : i + 2 + 1 ≤ j ∧ j ≤ nT u sz := by
                have := pE_ok tkT n 0 (i + 2) (d + 1) r0 hi2 e0
                rw [q1] at this
                exact ⟨this.1, this.2.1⟩
              have kf3 : FK G u sz tx rd (wkF w k kt u sz) r' h3 β Q := FK_sub kf (fun e he => by rw [g4]; exact he) (X1.trans (X2.trans X3))
              refine w_close C R3 okj.2 (n := 119) (c := 41) (by decide) B3 (by omega) (fun h4 e4 R4 X4 nh4 => ?_) (fun e4 => by rw [← prT_neg g1 e4]; exact kf3)
              have g1 := prT_pos g1 e4
              unfold prW at g1
              cases g1
              have B3b := B3.1
              have B3c := B3.2
              have z3 := X3.1
              rw [wp_bnd]
              refine wp_new (by omega) (by omega) ?_
              rw [wp_bnd, c_hgt (pu_at _ _), wp_ret]
              refine ks (j + 1) _ _ h4.1 _ _ g3 (g4.trans rfl) (RW_up (RW_pu R4) (pu_at _ _) R4.2.1) ?_ (xf_upn R.1 ((X1.trans (X2.trans (X3.trans X4))).trans (xf_pu R4.1)) (by omega)) (bud_new (c := 1) B3 (by omega) (by omega))
              rw [res_app, res_1 (by decide) (by decide) (by decide), show j + 1 - i = (j - i) + 1 by omega]
              refine Or.inr (Or.inr (Or.inl ⟨a', res (wkF w k kt u sz) ws, Or.inl ⟨up_at _ _ _, Or.inl (by omega)⟩, by omega, ?_, rfl⟩))
              have X5 : xf rd (nmA u sz tx) h3 (sd_up (sd_pu h4 (.inr (14, [.null]))) h4.1 (.inr (14, [.ref a']))) := xf_upn R3.1 (X4.trans (xf_pu R4.1)) (by omega)
              exact isSm_mono (Lp_xf R3 (by omega) (by omega) X5) (Nat.le_refl _) _ _ _ _ _ _ (by omega) (by omega) T3
            · rw [if_pos (by rcases e2 with q | q; exact Or.inr q; exact Or.inl q)] at hp
              cases hp
              exact FK_sub kf (fun _ q => q) X1
          · rw [wp_ite, if_pos rfl, w_nis C R hi (n := 120) (c := 45) (by decide)]
            by_cases e45 : kdT u sz i = 45
            · -- minus
              have hi1 := tk_lt31 hi e45 (by decide) (by decide)
              rw [if_pos e45] at hp
              rw [if_pos e45, wp_ite, if_neg (by decide)]
              refine w_deep C R hi hd (n := 120) (c := 45) (by decide) hb (by omega) (fun h2 e2 e8 R2 X2 nh2 => ?_) (fun e2 => ?_)
              · rw [if_neg e8] at hp
                obtain ⟨r0, e0, ow0, pf0, nx0⟩ := sqc_go (wk := (wkF w k kt u sz)) wk_tot hp ow
                rw [wp_bnd]
                refine wp_new (by omega) (by omega) ?_
                rw [wp_bnd, w_isC (RW_pu R2)]
                refine PW_bx (v := v - 5) (A4 (i + 1) (d + 1) r0 _ hi1 (by omega) (by omega) e0 ow0) (RW_pu R2) (bud_new (c := 1) hb (by omega) (by omega)) (by omega) (FK_sub kf pf0 (X2.trans (xf_pu R2.1))) (fun j ws ks' a' h3 b3 q1 q2 R3 T3 X3 B3 => ?_)
                obtain ⟨r', g1, g2, g3, g4⟩ := nx0 j ws ks' q1 q2
                unfold prW at g1
                cases g1
                have okj : i + 1 + 1 ≤ j ∧ j ≤ nT u sz := by
                  have := pE_ok tkT n 4 (i + 1) (d + 1) r0 hi1 e0
                  rw [q1] at this
                  exact ⟨this.1, this.2.1⟩
                have o3 := RW_mk R2 X3
                have R4 : RW G u sz n0 tl ta tx rd w so m k ky nd iv kt n1 j (d + 1) (sd_up h3 h2.1 (.inr (15, [.ref a']))) := RW_up R3 o3 R2.2.1
                have X4 : xf rd (nmA u sz tx) h (sd_up h3 h2.1 (.inr (15, [.ref a']))) := xf_upn R.1 (X2.trans ((xf_pu R2.1).trans X3)) (by omega)
                rw [wp_bnd, c_trn o3, wp_bnd, (rd_rd (RW_in R4).2.1).2.2.1, wp_bnd, wp_put (RW_in R4).2.1 (Nat.le_of_ble_eq_true rfl) rfl rfl, wp_ret, show n3 (d + 1) - 1 = n3 d from n3_sub (a := d + 1) (b := 1) (by omega)]
                have R5 : RW G u sz n0 tl ta tx rd w so m k ky nd iv kt n1 j d (sd_up (sd_up h3 h2.1 (.inr (15, [.ref a']))) rd (aRd tl j d w so m)) := RW_rd R4
                have X5 : xf rd (nmA u sz tx) (sd_up h3 h2.1 (.inr (15, [.ref a']))) (sd_up (sd_up h3 h2.1 (.inr (15, [.ref a']))) rd (aRd tl j d w so m)) := xf_up
                refine ks j _ _ h2.1 _ _ g3 (g4.trans rfl) R5 ?_ (X4.trans X5) (bud_le B3 (by omega))
                rw [res_app, res_1 (by decide) (by decide) (by decide), show j - i = (j - i - 1) + 1 by omega]
                have o5 := X5.2.1 _ _ (up_at h3 h2.1 (.inr (15, [.ref a']))) (RW_nw R4 R2.2.1).1 (RW_nw R4 R2.2.1).2
                refine Or.inr (Or.inr (Or.inr (Or.inl ⟨a', res (wkF w k kt u sz) ws, Or.inl ⟨o5, Or.inl (by omega)⟩, ?_, rfl⟩)))
                have l2 := R2.2.1
                exact isSm_mono (fun a e he => Lp_xf R4 (by omega) (Nat.le_refl _) X5 a e (Lp_up l2 (Nat.lt_succ_self _) (by show h.1 ≤ h2.1 + 1; omega) a e he)) (Nat.le_refl _) _ _ _ _ _ _ (by omega) (by omega) T3
              · rw [if_pos (e2.resolve_left (fun q => q e45))] at hp
                cases hp
                exact kf
            · rw [if_neg e45, wp_ite, if_pos rfl]
              rw [if_neg e45] at hp
              obtain ⟨s12, S1, S2⟩ := C.2.2.2.2.2.2.1
              obtain ⟨s13, S3, S4⟩ := C.2.2.2.2.2.2.2
              rw [wp_bnd, wp_cget S1, wp_bnd, w_isC R, wp_bnd]
              refine w_tifL C R hi (wdL_kw 27 (by decide)) S2 (fun h1 e R1 X1 nh1 => ?_) (fun e27 => ?_)
              · have hi1 := tk_lt31 hi e (by decide) (by decide)
                rw [wp_ite, if_neg (by decide)]
                rw [if_neg (by omega), if_pos (Or.inl e)] at hp
                rw [e] at hp
                refine w_208s (hh := h) (jj := 4) (z := n3 27) C A0 hi1 hd hD R1 l1 X1 nh1 hb hv kf ow (by decide) (C.2.2.2.1 12 4 (by decide)) rfl (by decide) (fun q => ?_) (fun q1 q2 => ?_) ks
                · rw [if_pos (by rcases q with q | q; exact Or.inr q; exact Or.inl q)] at hp
                  cases hp
                  rfl
                · rw [if_neg (by rintro (q | q); exact q2 q; exact q q1)] at hp
                  exact hp
              · rw [wp_ite, if_pos rfl, wp_bnd, wp_cget S3, wp_bnd, w_isC R, wp_bnd]
                refine w_tifL C R hi (wdL_kw 28 (by decide)) S4 (fun h1 e R1 X1 nh1 => ?_) (fun e28 => ?_)
                · have hi1 := tk_lt31 hi e (by decide) (by decide)
                  rw [wp_ite, if_neg (by decide)]
                  rw [if_neg (by omega), if_pos (Or.inr e)] at hp
                  rw [e] at hp
                  refine w_208s (hh := h) (jj := 5) (z := n3 28) C A0 hi1 hd hD R1 l1 X1 nh1 hb hv kf ow (by decide) (C.2.2.2.1 13 5 (by decide)) rfl (by decide) (fun q => ?_) (fun q1 q2 => ?_) ks
                  · rw [if_pos (by rcases q with q | q; exact Or.inr q; exact Or.inl q)] at hp
                    cases hp
                    rfl
                  · rw [if_neg (by rintro (q | q); exact q2 q; exact q q1)] at hp
                    exact hp
                · rw [wp_ite, if_pos rfl]
                  refine w_208n C A0 hi hd hD R hb hv kf ow (fun q => ?_) (fun q1 q2 => ?_) ks
                  · by_cases e40 : kdT u sz i = 40
                    · rw [if_pos e40, if_pos (q.resolve_left (fun q => q e40))] at hp
                      cases hp
                      rfl
                    · rw [if_neg e40, if_neg (by omega), if_neg (by omega), if_neg e21, if_neg e31, if_neg (by omega)] at hp
                      cases hp
                      rfl
                  · rw [if_pos q1, if_neg q2] at hp
                    exact hp
      | succ q ih =>
        intro j hj hne fuel hf
        cases fuel with
        | zero => omega
        | succ fuel =>
          obtain ⟨wa, ws, kd, w1, w2, w3, w4, w5, w6⟩ := W2 j (by omega)
          show wp (fX7_value_b40 G (pRP G D) (sd_loop _ fuel) rd (sd_ad G 10) (n3 6) (n3 j)) h b Q
          unfold fX7_value_b40
          rw [wp_ite, if_neg (by rw [n3_le (by omega) (by omega)]; omega), wp_bnd, wp_aldR wl (n3_ix (by omega) (by omega)) (by rw [n3_nn (by omega)]; exact w1), wp_bnd, wp_cget w3, wp_bnd, w_isC R, wp_bnd]
          refine w_tifL C R hi (wdL_kw (15 + j) (by omega)) w4 (fun h1 e R1 X1 nh1 => ?_) (fun e => ?_)
          · have hi1 := tk_lt31 hi e (by omega) (by omega)
            have R2 : RW G u sz n0 tl ta tx rd w so m k ky nd iv kt n1 (i + 1) d (sd_pu h1 (.inr (13, [.null, .int 0]))) := RW_pu R1
            rw [wp_ite, if_neg (by decide), wp_bnd]
            refine wp_new (by omega) (by omega) ?_
            rw [wp_bnd, wp_cget w5, wp_bnd, w_isC R2]
            by_cases j4 : j < 4
            · rw [if_neg (by omega), if_neg (by omega), if_neg (by omega), if_neg (by omega), if_neg (by omega), if_neg (by omega), if_pos (by omega)] at hp
              cases hp
              unfold fX7_which
              rw [if_pos (w6.mpr j4), wp_bx_l, wp_bnd, c_ask (pu_at _ _), wp_ret]
              refine ks (i + 1) _ [] h1.1 _ _ rfl rfl (RW_up R2 (pu_at _ _) R1.2.1) ?_ (xf_upn R.1 (X1.trans (xf_pu R1.1)) (by omega)) (bud_new (c := 1) hb (by omega) (by omega))
              rw [e, res_1 (by rw [show (19 : Int32) = n3 19 from rfl, Ne, n3_eq (by omega) (by omega)]; omega) (by rw [show (20 : Int32) = n3 20 from rfl, Ne, n3_eq (by omega) (by omega)]; omega) (by rw [show (22 : Int32) = n3 22 from rfl, Ne, n3_eq (by omega) (by omega)]; omega), show i + 1 - i = 0 + 1 by omega]
              exact Or.inr (Or.inl ⟨wa, j, _, by omega, Or.inl ⟨up_at _ _ _, Or.inl (by omega)⟩, Or.inr w2, Or.inl ⟨j4, rfl⟩⟩)
            · rw [if_neg (by omega), if_neg (by omega), if_neg (by omega), if_pos (by omega)] at hp
              unfold fX7_which
              rw [if_neg (fun q => j4 (w6.mp q)), wp_bx_bnd, w_isC R2, wp_bx_bx]
              have kf2 : FK G u sz tx rd (wkF w k kt u sz) r (sd_pu h1 (.inr (13, [.null, .int 0]))) β Q := FK_sub kf (fun _ q => q) (X1.trans (xf_pu R1.1))
              have hb' : bud β (b.1 - 1, b.2 - 2) (v - 5) := bud_new (c := 1) hb (by omega) (by omega)
              refine w_takeX C R2 hi1 (n := 114) (c := 10) (by decide) hb' (by omega) (fun h3 e3 R3 X3 nh3 => ?_) (fun e3 => by rw [← prT_neg hp e3]; exact kf2)
              have hi2 := tk_lt31 hi1 e3 (by decide) (by decide)
              have hp := prT_pos hp e3
              rw [wp_bx_bnd, (rd_rd (RW_in R3).2.1).2.2.2.2.2.1, wp_bx_bnd, w_isC R3, wp_bx_bx]
              refine w_knownX C hiv R3 hi2 hb' (by omega) (fun t h4 e4 e5 R4 X4 nh4 => ?_) (fun e4 => by rw [← prT_neg hp e4]; exact FK_sub kf2 (fun _ q => q) X3) (fun e4 e5 h' q b' p1 p2 p3 p4 => ?_)
              · have hp := prT_pos hp e4
                cases hp
                have fon : fo (wkF w k kt u sz) (.inl (i + 3, [(n3 (kdT u sz i), n3 (i + 2))], [i + 2])) = none := by
                  show ((List.find? (fun j => (wkF w k kt u sz j).isNone) [i + 2]).map _) = none
                  rw [List.find?_cons_of_neg (by rw [e5]; exact Bool.false_ne_true)]
                  rfl
                have o4 := RW_mk R1 (X3.trans X4)
                rw [wp_bx_l, wp_bnd, c_ask o4, wp_ret]
                refine ks (i + 3) _ [i + 2] h1.1 _ _ rfl fon (RW_up R4 o4 R1.2.1) ?_ (xf_upn R.1 (X1.trans ((xf_pu R1.1).trans (X3.trans X4))) (by omega)) (bud_le hb' (by omega))
                have er : res (wkF w k kt u sz) [(n3 (kdT u sz i), n3 (i + 2))] = [(n3 (15 + j), n3 t)] := by
                  show [resR (wkF w k kt u sz) _] = _
                  unfold resR
                  rw [if_pos, e]
                  · show [(n3 (15 + j), n3 ((wkF w k kt u sz (n3 (i + 2)).toNatClampNeg).getD 0))] = _
                    rw [n3_nn (by omega), e5]
                    rfl
                  · rw [e]
                    have : j = 4 ∨ j = 5 := by omega
                    rcases this with rfl | rfl
                    · exact Or.inl rfl
                    · exact Or.inr (Or.inl rfl)
                rw [er, show i + 3 - i = 2 + 1 by omega]
                exact Or.inr (Or.inl ⟨wa, j, _, by omega, Or.inl ⟨up_at _ _ _, Or.inl (by omega)⟩, Or.inr w2, Or.inr ⟨by omega, ⟨t, wkF_lt e5, rfl⟩, rfl⟩⟩)
              · have hp := prT_pos hp e4
                cases hp
                refine kf 3 (i + 2) h' q b' ?_ p1 p2 (X1.trans ((xf_pu R1.1).trans (X3.trans p3))) p4
                show ((List.find? (fun j => (wkF w k kt u sz j).isNone) [i + 2]).map _) = _
                rw [List.find?_cons_of_pos (by rw [e5]; rfl)]
                rfl
          · rw [wp_ite, if_pos rfl, wp_bnd, wp_ret, show n3 j + 1 = n3 (j + 1) from n3_add j 1]
            refine ih (j + 1) (by omega) (fun j' hj' => ?_) fuel (by omega)
            by_cases c : j' = j
            · rw [c]
              exact e
            · exact hne j' (by omega)
    exact loop 6 0 rfl (fun j' hj' => absurd hj' (Nat.not_lt_zero _)) sd_FU (by unfold sd_FU; omega)
end WV2
