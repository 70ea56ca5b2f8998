/-! THE PLAIN LAW: the walk over a value -/
section WVA
variable {G : sd_G} {u : Nat → Nat} {sz n0 n1 tl so m rd k : Nat} {ta tx : Nat → Nat} {w : Int32} {ky nd iv : Nat → Nat} {kt : Nat → List Nat} {β b : Nat × Nat} {h : sd_H} {i d v n D : Nat} {r : PR} {Q : Nat ⊕ Nat → sd_H → Nat × Nat → Prop}
/-- something in brackets -/
theorem w_208n (C : wlC G) (A0 : ∀ i d r h, i ≤ nT u sz → d ≤ 8 → 3 * (8 - d) + 3 ≤ D → pE (kdT u sz) (vlT u sz) n 0 i d = some r → okw w r → PW G u sz n0 tl ta tx rd w so m k ky nd iv kt n1 ((pRP G D).2.2.2.1 rd) 40 0 (fun s h' a j ws => isSm (neF w k) (Lp G (Rg n0 n1 rd (nmA u sz tx) s) h') (j - i) (9 - d) a ws) i d r h) (hi : i ≤ nT u sz) (hd : d ≤ 8) (hD : 3 * (8 - d) + 1 ≤ D + 1) (R : RW G u sz n0 tl ta tx rd w so m k ky nd iv kt n1 i d h) (hb : bud β b v) (hv : 50 * (nT u sz + 1 - i) ≤ v + 40) (kf : FK G u sz tx rd (wkF w k kt u sz) r h β Q) (ow : okw w r) (h1 : kdT u sz i ≠ 40 ∨ d = 8 → r = .inr i) (h2 : kdT u sz i = 40 → d ≠ 8 → sqc (pE (kdT u sz) (vlT u sz) n 0 (i + 1) (d + 1)) (fun j => prT (kdT u sz) 41 j (some (.inl (j + 1, [], [])))) = some r)
    (ks : ∀ j ws ks a h' b', r = .inl (j, ws, ks) → fo (wkF w k kt u sz) r = none → RW G u sz n0 tl ta tx rd w so m k ky nd iv kt n1 j d h' → isSm (neF w k) (Lp G (Rg n0 n1 rd (nmA u sz tx) h.1) h') (j - i) (9 - d) a (res (wkF w k kt u sz) ws) → xf rd (nmA u sz tx) h h' → bud β b' (50 * (nT u sz + 1 - j) + 0) → Q (.inl a) h' b') : wp (fX7_value_b208 G (pRP G D) rd none) h b Q := by
  unfold fX7_value_b208
  refine w_deep C R hi hd (n := 118) (c := 40) (by decide) hb (by omega) (fun h1' e e8 R1 X1 nh1 => ?_) (fun e => by rw [← h1 e]; exact kf)
  have hi1 := tk_lt31 hi e (by decide) (by decide)
  obtain ⟨r0, e0, ow0, pf0, nx0⟩ := sqc_go (wk := (wkF w k kt u sz)) wk_tot (h2 e e8) ow
  rw [wp_bnd, w_isC R1]
  refine PW_bx (A0 (i + 1) (d + 1) r0 h1' hi1 (by omega) (by omega) e0 ow0) R1 hb (by omega) (FK_sub kf pf0 X1) (fun j ws ks' a' h3 b3 q1 q2 R3 T3 X3 B3 => ?_)
  obtain ⟨r', g1, g2, g3, g4⟩ := nx0 j ws ks' q1 q2
  have okj : i + 1 + 1 ≤ j ∧ j ≤ nT u sz := by
    have := pE_ok tkT n 0 (i + 1) (d + 1) r0 hi1 e0
    rw [q1] at this
    exact ⟨this.1, this.2.1⟩
  have l1 := R.2.1
  show wp (sd_bnd (sd_isC G 6 rd) fun _ => _) h3 b3 Q
  refine w_close C R3 okj.2 (n := 119) (c := 41) (by decide) B3 (by omega) (fun h4 e4 R4 X4 nh4 => ?_) (fun e4 => ?_)
  · have g1 := prT_pos g1 e4
    cases g1
    rw [wp_ret]
    refine ks (j + 1) (ws ++ []) (ks' ++ []) a' h4 b3 g3 (g4.trans rfl) R4 ?_ (X1.trans (X3.trans X4)) (bud_le B3 (by omega))
    rw [List.append_nil]
    exact isSm_mono (Lp_xf R3 (by omega) (by omega) X4) (Nat.le_refl _) _ _ _ _ _ _ (by omega) (by omega) T3
  · have g1 := prT_neg g1 e4
    exact FK_sub kf (fun e he => by rw [g4, g1]; exact he) (X1.trans X3)
/-- the least or the most of two -/
theorem w_208s {hh : sd_H} {sg jj : Nat} {z : Int32} (C : wlC G) (A0 : ∀ i d r h, i ≤ nT u sz → d ≤ 8 → 3 * (8 - d) + 3 ≤ D → pE (kdT u sz) (vlT u sz) n 0 i d = some r → okw w r → PW G u sz n0 tl ta tx rd w so m k ky nd iv kt n1 ((pRP G D).2.2.2.1 rd) 40 0 (fun s h' a j ws => isSm (neF w k) (Lp G (Rg n0 n1 rd (nmA u sz tx) s) h') (j - i) (9 - d) a ws) i d r h) (hi : i + 1 ≤ nT u sz) (hd : d ≤ 8) (hD : 3 * (8 - d) + 1 ≤ D + 1) (R : RW G u sz n0 tl ta tx rd w so m k ky nd iv kt n1 (i + 1) d h) (hl : n1 ≤ hh.1) (X0 : xf rd (nmA u sz tx) hh h) (nh0 : h.1 = hh.1) (hb : bud β b v) (hv : 50 * (nT u sz + 1 - i) ≤ v + 40) (kf : FK G u sz tx rd (wkF w k kt u sz) r hh β Q) (ow : okw w r) (hj : jj < 6) (hsg : sd_c G sg = some (.inr (33 + jj, []))) (hz : signO jj = z) (hz2 : z ≠ 19 ∧ z ≠ 20 ∧ z ≠ 22) (h1 : kdT u sz (i + 1) ≠ 40 ∨ d = 8 → r = .inr (i + 1)) (h2 : kdT u sz (i + 1) = 40 → d ≠ 8 → sqc (pE (kdT u sz) (vlT u sz) n 0 (i + 2) (d + 1)) (fun j => prT (kdT u sz) 44 j (sqc (pE (kdT u sz) (vlT u sz) n 0 (j + 1) (d + 1)) fun j => prT (kdT u sz) 41 j (prW (z, 0) (j + 1)))) = some r)
    (ks : ∀ j ws ks a h' b', r = .inl (j, ws, ks) → fo (wkF w k kt u sz) r = none → RW G u sz n0 tl ta tx rd w so m k ky nd iv kt n1 j d h' → isSm (neF w k) (Lp G (Rg n0 n1 rd (nmA u sz tx) hh.1) h') (j - i) (9 - d) a (res (wkF w k kt u sz) ws) → xf rd (nmA u sz tx) hh h' → bud β b' (50 * (nT u sz + 1 - j) + 0) → Q (.inl a) h' b') : wp (fX7_value_b208 G (pRP G D) rd (some sg)) h b Q := by
  unfold fX7_value_b208
  refine w_deep C R hi hd (n := 118) (c := 40) (by decide) hb (by omega) (fun h1' e e8 R1 X1 nh1 => ?_) (fun e => by rw [← h1 e]; exact FK_sub kf (fun _ q => q) X0)
  have hi1 := tk_lt31 hi e (by decide) (by decide)
  obtain ⟨r0, e0, ow0, pf0, nx0⟩ := sqc_go (wk := (wkF w k kt u sz)) wk_tot (h2 e e8) ow
  rw [wp_bnd, w_isC R1]
  refine PW_bx (A0 (i + 2) (d + 1) r0 h1' hi1 (by omega) (by omega) e0 ow0) R1 hb (by omega) (FK_sub kf pf0 (X0.trans X1)) (fun j ws ks' a' h3 b3 q1 q2 R3 T3 X3 B3 => ?_)
  obtain ⟨r', g1, g2, g3, g4⟩ := nx0 j ws ks' q1 q2
  have okj : i + 2 + 1 ≤ j ∧ j ≤ nT u sz := by
    have := pE_ok tkT n 0 (i + 2) (d + 1) r0 hi1 e0
    rw [q1] at this
    exact ⟨this.1, this.2.1⟩
  have kf3 : FK G u sz tx rd (wkF w k kt u sz) r' h3 β Q := FK_sub kf (fun e he => by rw [g4]; exact he) (X0.trans (X1.trans X3))
  show wp (sd_bnd (sd_isC G 6 rd) fun _ => _) h3 b3 Q
  refine w_take C R3 okj.2 (n := 112) (c := 44) (by decide) B3 (by omega) (fun h4 e4 R4 X4 nh4 => ?_) (fun e4 => by rw [← prT_neg g1 e4]; exact kf3)
  have hj1 := tk_lt31 okj.2 e4 (by decide) (by decide)
  have g1 := prT_pos g1 e4
  obtain ⟨r2, e2, ow2, pf2, nx2⟩ := sqc_go (wk := (wkF w k kt u sz)) wk_tot g1 g2
  have B3b := B3.1
  have B3c := B3.2
  rw [wp_bnd]
  refine wp_new (by omega) (by omega) ?_
  rw [wp_bnd, w_isC (RW_pu R4)]
  refine PW_bx (v := 50 * (nT u sz + 1 - j) - 10) (A0 (j + 1) (d + 1) r2 _ hj1 (by omega) (by omega) e2 ow2) (RW_pu R4) (bud_new (c := 1) B3 (by omega) (by omega)) (by omega) (FK_sub kf3 pf2 (X4.trans (xf_pu R4.1))) (fun j2 ws2 ks2 a2 h5 b5 p1 p2 R5 T5 X5 B5 => ?_)
  obtain ⟨r3, f1, f2, f3, f4⟩ := nx2 j2 ws2 ks2 p1 p2
  have okj2 : j + 1 + 1 ≤ j2 ∧ j2 ≤ nT u sz := by
    have := pE_ok tkT n 0 (j + 1) (d + 1) r2 hj1 e2
    rw [p1] at this
    exact ⟨this.1, this.2.1⟩
  have o5 := RW_mk R4 X5
  have l4 := R4.2.1
  have X35 : xf rd (nmA u sz tx) h3 (sd_up h5 h4.1 (.inr (16, [.ref sg, .ref a', .ref a2]))) := xf_upn R3.1 (X4.trans ((xf_pu R4.1).trans X5)) (by omega)
  have R6 : RW G u sz n0 tl ta tx rd w so m k ky nd iv kt n1 j2 (d + 1) (sd_up h5 h4.1 (.inr (16, [.ref sg, .ref a', .ref a2]))) := RW_up R5 o5 l4
  have X06 := X0.trans (X1.trans (X3.trans X35))
  have z1 := X1.1
  have z3 := X3.1
  rw [wp_bnd, c_join o5]
  refine w_close C R6 okj2.2 (n := 119) (c := 41) (by decide) B5 (by omega) (fun h7 e7 R7 X7 nh7 => ?_) (fun e7 => ?_)
  · have f1 := prT_pos f1 e7
    unfold prW at f1
    cases f1
    rw [wp_ret]
    have rz : res (wkF w k kt u sz) [(z, 0)] = [(z, 0)] := res_1 hz2.1 hz2.2.1 hz2.2.2
    have er : r = .inl (j2 + 1, ws ++ (ws2 ++ [(z, 0)]), ks' ++ (ks2 ++ [])) := by rw [g3, f3]; rfl
    refine ks (j2 + 1) _ _ h4.1 h7 b5 er (g4.trans (f4.trans rfl)) R7 ?_ (X06.trans X7) (bud_le B5 (by omega))
    rw [res_app, res_app, rz, ← List.append_assoc, show j2 + 1 - i = (j2 - i) + 1 by omega]
    have o7 : h7.2 h4.1 = some (.inr (16, [.ref sg, .ref a', .ref a2])) := X7.2.1 _ _ (up_at _ _ _) (RW_nw R6 l4).1 (RW_nw R6 l4).2
    refine Or.inr (Or.inr (Or.inr (Or.inr ⟨sg, jj, a', a2, res (wkF w k kt u sz) ws, res (wkF w k kt u sz) ws2, hj, Or.inl ⟨o7, Or.inl (by omega)⟩, Or.inr hsg, ?_, ?_, by rw [hz]⟩)))
    · exact isSm_mono (Lp_xf R3 (by omega) (by omega) (X35.trans X7)) (Nat.le_refl _) _ _ _ _ _ _ (by omega) (by omega) T3
    · exact isSm_mono (fun a e he => Lp_xf R6 (by omega) (by omega) X7 a e (Lp_up l4 (Nat.lt_succ_self _) (Nat.le_refl _) a e he)) (Nat.le_refl _) _ _ _ _ _ _ (by omega) (by omega) T5
  · have f1 := prT_neg f1 e7
    refine FK_sub kf (fun e he => ?_) X06
    rw [g4, f4, f1]
    exact he
end WVA
