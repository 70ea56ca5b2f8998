/-! THE PLAIN LAW: the walk over chains of sums and products -/
section WCH
variable {G : sd_G} {u : Nat → Nat} {sz n0 n1 tl so m rd k : Nat} {ta tx : Nat → Nat} {w : Int32} {ky nd iv : Nat → Nat} {kt : Nat → List Nat} {d : Nat}
theorem w_sumR {n D : Nat} (C : wlC G)
    (A : ∀ i r h, i ≤ nT u sz → pE (kdT u sz) (vlT u sz) n 2 i d = some r → okw w r → PW G u sz n0 tl ta tx rd w so m k ky nd iv kt n1 ((pRP G D).2.2.2.2.1 rd) 40 0 (fun s h' a j ws => isSm (neF w k) (Lp G (Rg n0 n1 rd (nmA u sz tx) s) h') (j - i) (9 - d) a ws) i d r h)
    (B : ∀ i r h f a s0 i0 w0, i ≤ nT u sz → pE (kdT u sz) (vlT u sz) n 1 i d = some r → okw w r → nT u sz + 1 - i < f → isSm (neF w k) (Lp G (Rg n0 n1 rd (nmA u sz tx) s0) h) (i - i0) (9 - d) a w0 → i0 < i → n1 ≤ s0 → s0 ≤ h.1 → PW G u sz n0 tl ta tx rd w so m k ky nd iv kt n1 (sd_loop (fun k s => fX7_sum_b5 G (pRP G D) k s.1 s.2) f (rd, a)) 0 0 (fun _ h' a j ws => isSm (neF w k) (Lp G (Rg n0 n1 rd (nmA u sz tx) s0) h') (j - i0) (9 - d) a (w0 ++ ws)) i d r h) :
    ∀ i r h f a s0 i0 w0, i ≤ nT u sz → pE (kdT u sz) (vlT u sz) (n + 1) 1 i d = some r → okw w r → nT u sz + 1 - i < f → isSm (neF w k) (Lp G (Rg n0 n1 rd (nmA u sz tx) s0) h) (i - i0) (9 - d) a w0 → i0 < i → n1 ≤ s0 → s0 ≤ h.1 → PW G u sz n0 tl ta tx rd w so m k ky nd iv kt n1 (sd_loop (fun k s => fX7_sum_b5 G (pRP G D) k s.1 s.2) f (rd, a)) 0 0 (fun _ h' a j ws => isSm (neF w k) (Lp G (Rg n0 n1 rd (nmA u sz tx) s0) h') (j - i0) (9 - d) a (w0 ++ ws)) i d r h := by
  intro i r h f a s0 i0 w0 hi hp ow hf hT h0 hn1 hs b β v Q R hb hv kf ks
  have hp : pSumR (kdT u sz) (pE (kdT u sz) (vlT u sz) n) i d = some r := hp
  cases f with
  | zero => omega
  | succ f =>
    show wp (fX7_sum_b5 G (pRP G D) (sd_loop (fun k s => fX7_sum_b5 G (pRP G D) k s.1 s.2) f) rd a) h b Q
    have join : ∀ (sg jj : Nat) (z : Int32) (h1 : sd_H), RW G u sz n0 tl ta tx rd w so m k ky nd iv kt n1 (i + 1) d h1 → xf rd (nmA u sz tx) h h1 → h1.1 = h.1 → jj < 6 → sd_c G sg = some (.inr (33 + jj, [])) → signO jj = z → z ≠ 19 ∧ z ≠ 20 ∧ z ≠ 22 → sqc (sqc (pE (kdT u sz) (vlT u sz) n 2 (i + 1) d) (prW (z, 0))) (fun j => pE (kdT u sz) (vlT u sz) n 1 j d) = some r → i + 1 ≤ nT u sz → wp (fX7_sum_b65 G (pRP G D) (sd_loop (fun k s => fX7_sum_b5 G (pRP G D) k s.1 s.2) f) rd a sg) h1 b Q := by
      intro sg jj z h1 R1 X1 nh1 hj hsg hz hz2 hs2 hi1
      obtain ⟨r1, e1, ow1, pf1, nx1⟩ := sqc_go (wk := (wkF w k kt u sz)) wk_tot hs2 ow
      obtain ⟨r0, e0, ow0, pf0, nx0⟩ := sqc_go (wk := (wkF w k kt u sz)) wk_tot e1 ow1
      have hb1 := hb.1
      have hb2 := hb.2
      have l1 := R1.2.1
      unfold fX7_sum_b65
      rw [wp_bnd]
      refine wp_new (by omega) (by omega) ?_
      rw [wp_bnd, w_isC (RW_pu R1)]
      refine PW_bx (v := v - 10) (A (i + 1) r0 _ hi1 e0 ow0) (RW_pu R1) (bud_new (c := 1) hb (by omega) (by omega)) (by omega) (FK_sub kf (fun e he => pf1 e (pf0 e he)) (X1.trans (xf_pu R1.1))) (fun j ws ks' a' h3 b3 q1 q2 R3 T3 X3 B3 => ?_)
      obtain ⟨rw1, f1, f2, f3, f4⟩ := nx0 j ws ks' q1 q2
      unfold prW at f1
      cases f1
      obtain ⟨r', g1, g2, g3, g4⟩ := nx1 j (ws ++ [(z, 0)]) (ks' ++ []) f3 (f4.trans rfl)
      have okj : i + 1 + 1 ≤ j ∧ j ≤ nT u sz := by
        have := pE_ok tkT n 2 (i + 1) d r0 hi1 e0
        rw [q1] at this
        exact ⟨this.1, this.2.1⟩
      have o3 := RW_mk R1 X3
      rw [wp_bnd, c_join o3]
      have X4 : xf rd (nmA u sz tx) h (sd_up h3 h1.1 (.inr (16, [.ref sg, .ref a, .ref a']))) := xf_upn R.1 (X1.trans ((xf_pu R1.1).trans X3)) (by omega)
      have rz : res (wkF w k kt u sz) [(z, 0)] = [(z, 0)] := res_1 hz2.1 hz2.2.1 hz2.2.2
      have T : isSm (neF w k) (Lp G (Rg n0 n1 rd (nmA u sz tx) s0) (sd_up h3 h1.1 (.inr (16, [.ref sg, .ref a, .ref a'])))) (j - i0) (9 - d) h1.1 (w0 ++ res (wkF w k kt u sz) ws ++ [(z, 0)]) := by
        rw [show j - i0 = (j - i0 - 1) + 1 by omega]
        refine Or.inr (Or.inr (Or.inr (Or.inr ⟨sg, jj, a, a', w0, res (wkF w k kt u sz) ws, hj, Or.inl ⟨up_at _ _ _, Or.inl (by omega)⟩, Or.inr hsg, ?_, ?_, by rw [hz]⟩)))
        · exact isSm_mono (Lp_xf R hn1 (Nat.le_refl _) X4) (Nat.le_refl _) _ _ _ _ _ _ (by omega) (Nat.le_refl _) hT
        · exact isSm_mono (Lp_up l1 (Nat.lt_succ_self _) (by show s0 ≤ h1.1 + 1; omega)) (Nat.le_refl _) _ _ _ _ _ _ (by omega) (Nat.le_refl _) T3
      refine B j r' _ f h1.1 s0 i0 (w0 ++ res (wkF w k kt u sz) ws ++ [(z, 0)]) okj.2 g1 g2 (by omega) T (by omega) hn1 (by have := X4.1; omega) b3 β _ Q (RW_up R3 o3 l1) B3 (by omega) (FK_sub kf (fun e he => by rw [g4]; exact he) X4) (fun j2 ws2 ks2 a2 h5 b5 p1 p2 R5 T5 X5 B5 => ?_)
      refine ks j2 (ws ++ [(z, 0)] ++ ws2) (ks' ++ [] ++ ks2) a2 h5 b5 (by rw [g3, p1]; rfl) (g4.trans p2) R5 ?_ (X4.trans X5) B5
      show isSm (neF w k) (Lp G (Rg n0 n1 rd (nmA u sz tx) s0) h5) (j2 - i0) (9 - d) a2 (w0 ++ res (wkF w k kt u sz) (ws ++ [(z, 0)] ++ ws2))
      rw [res_app, res_app, rz, ← List.append_assoc, ← List.append_assoc]
      exact T5
    unfold fX7_sum_b5
    rw [w_nis C R hi (n := 123) (c := 43) (by decide)]
    by_cases e1 : kdT u sz i = 43
    · have hi1 := tk_lt31 hi e1 (by decide) (by decide)
      unfold pSumR at hp
      rw [if_pos (Or.inl e1), if_pos e1] at hp
      rw [if_pos e1, wp_ite, if_neg (by decide)]
      unfold fX7_sum_b31
      rw [wp_bnd, w_isC R, wp_bnd]
      refine w_tif C R hi (n := 123) (c := 43) (by decide) (fun h1 _ R1 X1 nh => ?_) (fun q => absurd e1 q)
      rw [wp_ite, if_neg (by decide)]
      unfold fX7_sum_b50
      rw [wp_ite, if_neg C.2.2.2.2.1]
      exact join (sd_ad G 16) 0 101 h1 R1 X1 nh (by decide) (C.2.2.2.1 16 0 (by decide)) rfl (by decide) hp hi1
    · rw [if_neg e1, wp_ite, if_pos rfl, w_nis C R hi (n := 120) (c := 45) (by decide)]
      by_cases e2 : kdT u sz i = 45
      · have hi1 := tk_lt31 hi e2 (by decide) (by decide)
        unfold pSumR at hp
        rw [if_pos (Or.inr e2), if_neg e1] at hp
        rw [if_pos e2, wp_ite, if_neg (by decide)]
        unfold fX7_sum_b31
        rw [wp_bnd, w_isC R, wp_bnd]
        refine w_tif C R hi (n := 123) (c := 43) (by decide) (fun h1 q => absurd q e1) (fun _ => ?_)
        rw [wp_ite, if_pos rfl]
        unfold fX7_sum_b50
        rw [wp_ite, if_pos rfl]
        refine w_take C R hi (n := 120) (c := 45) (by decide) hb (by omega) (fun h1 _ R1 X1 nh => ?_) (fun q => absurd e2 q)
        exact join (sd_ad G 17) 1 102 h1 R1 X1 nh (by decide) (C.2.2.2.1 17 1 (by decide)) rfl (by decide) hp hi1
      · unfold pSumR at hp
        rw [if_neg (by rintro (q | q); exact e1 q; exact e2 q)] at hp
        cases hp
        rw [if_neg e2, wp_ite, if_pos rfl, wp_ret]
        refine ks i [] [] a h b rfl rfl R ?_ xf.refl (bud_le hb (by omega))
        show isSm (neF w k) (Lp G (Rg n0 n1 rd (nmA u sz tx) s0) h) (i - i0) (9 - d) a (w0 ++ [])
        rw [List.append_nil]
        exact hT
theorem w_sum {n D : Nat} (C : wlC G)
    (A : ∀ i r h, i ≤ nT u sz → pE (kdT u sz) (vlT u sz) n 2 i d = some r → okw w r → PW G u sz n0 tl ta tx rd w so m k ky nd iv kt n1 ((pRP G D).2.2.2.2.1 rd) 40 0 (fun s h' a j ws => isSm (neF w k) (Lp G (Rg n0 n1 rd (nmA u sz tx) s) h') (j - i) (9 - d) a ws) i d r h)
    (B : ∀ i r h f a s0 i0 w0, i ≤ nT u sz → pE (kdT u sz) (vlT u sz) n 1 i d = some r → okw w r → nT u sz + 1 - i < f → isSm (neF w k) (Lp G (Rg n0 n1 rd (nmA u sz tx) s0) h) (i - i0) (9 - d) a w0 → i0 < i → n1 ≤ s0 → s0 ≤ h.1 → PW G u sz n0 tl ta tx rd w so m k ky nd iv kt n1 (sd_loop (fun k s => fX7_sum_b5 G (pRP G D) k s.1 s.2) f (rd, a)) 0 0 (fun _ h' a j ws => isSm (neF w k) (Lp G (Rg n0 n1 rd (nmA u sz tx) s0) h') (j - i0) (9 - d) a (w0 ++ ws)) i d r h) :
    ∀ i r h, i ≤ nT u sz → pE (kdT u sz) (vlT u sz) (n + 1) 0 i d = some r → okw w r → PW G u sz n0 tl ta tx rd w so m k ky nd iv kt n1 ((pRP G (D + 1)).2.2.2.1 rd) 40 0 (fun s h' a j ws => isSm (neF w k) (Lp G (Rg n0 n1 rd (nmA u sz tx) s) h') (j - i) (9 - d) a ws) i d r h := by
  intro i r h hi hp ow b β v Q R hb hv kf ks
  have hp : sqc (pE (kdT u sz) (vlT u sz) n 2 i d) (fun j => pE (kdT u sz) (vlT u sz) n 1 j d) = some r := hp
  obtain ⟨r0, e0, ow0, pf0, nx0⟩ := sqc_go (wk := (wkF w k kt u sz)) wk_tot hp ow
  show wp (fX7_sum G (pRP G D) rd) h b Q
  unfold fX7_sum
  rw [wp_bnd, w_isC R]
  refine PW_bx (A i r0 h hi e0 ow0) R hb hv (FK_sub kf pf0 xf.refl) (fun j ws ks' a' h3 b3 q1 q2 R3 T3 X3 B3 => ?_)
  obtain ⟨r', g1, g2, g3, g4⟩ := nx0 j ws ks' q1 q2
  have okj : i + 1 ≤ j ∧ j ≤ nT u sz := by
    have := pE_ok tkT n 2 i d r0 hi e0
    rw [q1] at this
    exact ⟨this.1, this.2.1⟩
  have lN := nT_le (u := u) (sz := sz)
  refine B j r' h3 sd_FU a' h.1 i (res (wkF w k kt u sz) ws) okj.2 g1 g2 (by unfold sd_FU; omega) T3 (by omega) R.2.1 X3.1 b3 β _ Q R3 B3 (by omega) (FK_sub kf (fun e he => by rw [g4]; exact he) X3) (fun j2 ws2 ks2 a2 h5 b5 p1 p2 R5 T5 X5 B5 => ?_)
  refine ks j2 (ws ++ ws2) (ks' ++ ks2) a2 h5 b5 (by rw [g3, p1]; rfl) (g4.trans p2) R5 ?_ (X3.trans X5) B5
  show isSm (neF w k) (Lp G (Rg n0 n1 rd (nmA u sz tx) h.1) h5) (j2 - i) (9 - d) a2 (res (wkF w k kt u sz) (ws ++ ws2))
  rw [res_app]
  exact T5
theorem w_proR {n D : Nat} (C : wlC G)
    (A : ∀ i r h, i ≤ nT u sz → pE (kdT u sz) (vlT u sz) n 4 i d = some r → okw w r → PW G u sz n0 tl ta tx rd w so m k ky nd iv kt n1 ((pRP G D).2.2.2.2.2 rd) 40 0 (fun s h' a j ws => isSm (neF w k) (Lp G (Rg n0 n1 rd (nmA u sz tx) s) h') (j - i) (9 - d) a ws) i d r h)
    (B : ∀ i r h f a s0 i0 w0, i ≤ nT u sz → pE (kdT u sz) (vlT u sz) n 3 i d = some r → okw w r → nT u sz + 1 - i < f → isSm (neF w k) (Lp G (Rg n0 n1 rd (nmA u sz tx) s0) h) (i - i0) (9 - d) a w0 → i0 < i → n1 ≤ s0 → s0 ≤ h.1 → PW G u sz n0 tl ta tx rd w so m k ky nd iv kt n1 (sd_loop (fun k s => fX7_product_b5 G (pRP G D) k s.1 s.2) f (rd, a)) 0 0 (fun _ h' a j ws => isSm (neF w k) (Lp G (Rg n0 n1 rd (nmA u sz tx) s0) h') (j - i0) (9 - d) a (w0 ++ ws)) i d r h) :
    ∀ i r h f a s0 i0 w0, i ≤ nT u sz → pE (kdT u sz) (vlT u sz) (n + 1) 3 i d = some r → okw w r → nT u sz + 1 - i < f → isSm (neF w k) (Lp G (Rg n0 n1 rd (nmA u sz tx) s0) h) (i - i0) (9 - d) a w0 → i0 < i → n1 ≤ s0 → s0 ≤ h.1 → PW G u sz n0 tl ta tx rd w so m k ky nd iv kt n1 (sd_loop (fun k s => fX7_product_b5 G (pRP G D) k s.1 s.2) f (rd, a)) 0 0 (fun _ h' a j ws => isSm (neF w k) (Lp G (Rg n0 n1 rd (nmA u sz tx) s0) h') (j - i0) (9 - d) a (w0 ++ ws)) i d r h := by
  intro i r h f a s0 i0 w0 hi hp ow hf hT h0 hn1 hs b β v Q R hb hv kf ks
  have hp : pProR (kdT u sz) (pE (kdT u sz) (vlT u sz) n) i d = some r := hp
  cases f with
  | zero => omega
  | succ f =>
    show wp (fX7_product_b5 G (pRP G D) (sd_loop (fun k s => fX7_product_b5 G (pRP G D) k s.1 s.2) f) rd a) h b Q
    have join : ∀ (sg jj : Nat) (z : Int32) (h1 : sd_H), RW G u sz n0 tl ta tx rd w so m k ky nd iv kt n1 (i + 1) d h1 → xf rd (nmA u sz tx) h h1 → h1.1 = h.1 → jj < 6 → sd_c G sg = some (.inr (33 + jj, [])) → signO jj = z → z ≠ 19 ∧ z ≠ 20 ∧ z ≠ 22 → sqc (sqc (pE (kdT u sz) (vlT u sz) n 4 (i + 1) d) (prW (z, 0))) (fun j => pE (kdT u sz) (vlT u sz) n 3 j d) = some r → i + 1 ≤ nT u sz → wp (fX7_product_b65 G (pRP G D) (sd_loop (fun k s => fX7_product_b5 G (pRP G D) k s.1 s.2) f) rd a sg) h1 b Q := by
      intro sg jj z h1 R1 X1 nh1 hj hsg hz hz2 hs2 hi1
      obtain ⟨r1, e1, ow1, pf1, nx1⟩ := sqc_go (wk := (wkF w k kt u sz)) wk_tot hs2 ow
      obtain ⟨r0, e0, ow0, pf0, nx0⟩ := sqc_go (wk := (wkF w k kt u sz)) wk_tot e1 ow1
      have hb1 := hb.1
      have hb2 := hb.2
      have l1 := R1.2.1
      unfold fX7_product_b65
      rw [wp_bnd]
      refine wp_new (by omega) (by omega) ?_
      rw [wp_bnd, w_isC (RW_pu R1)]
      refine PW_bx (v := v - 10) (A (i + 1) r0 _ hi1 e0 ow0) (RW_pu R1) (bud_new (c := 1) hb (by omega) (by omega)) (by omega) (FK_sub kf (fun e he => pf1 e (pf0 e he)) (X1.trans (xf_pu R1.1))) (fun j ws ks' a' h3 b3 q1 q2 R3 T3 X3 B3 => ?_)
      obtain ⟨rw1, f1, f2, f3, f4⟩ := nx0 j ws ks' q1 q2
      unfold prW at f1
      cases f1
      obtain ⟨r', g1, g2, g3, g4⟩ := nx1 j (ws ++ [(z, 0)]) (ks' ++ []) f3 (f4.trans rfl)
      have okj : i + 1 + 1 ≤ j ∧ j ≤ nT u sz := by
        have := pE_ok tkT n 4 (i + 1) d r0 hi1 e0
        rw [q1] at this
        exact ⟨this.1, this.2.1⟩
      have o3 := RW_mk R1 X3
      rw [wp_bnd, c_join o3]
      have X4 : xf rd (nmA u sz tx) h (sd_up h3 h1.1 (.inr (16, [.ref sg, .ref a, .ref a']))) := xf_upn R.1 (X1.trans ((xf_pu R1.1).trans X3)) (by omega)
      have rz : res (wkF w k kt u sz) [(z, 0)] = [(z, 0)] := res_1 hz2.1 hz2.2.1 hz2.2.2
      have T : isSm (neF w k) (Lp G (Rg n0 n1 rd (nmA u sz tx) s0) (sd_up h3 h1.1 (.inr (16, [.ref sg, .ref a, .ref a'])))) (j - i0) (9 - d) h1.1 (w0 ++ res (wkF w k kt u sz) ws ++ [(z, 0)]) := by
        rw [show j - i0 = (j - i0 - 1) + 1 by omega]
        refine Or.inr (Or.inr (Or.inr (Or.inr ⟨sg, jj, a, a', w0, res (wkF w k kt u sz) ws, hj, Or.inl ⟨up_at _ _ _, Or.inl (by omega)⟩, Or.inr hsg, ?_, ?_, by rw [hz]⟩)))
        · exact isSm_mono (Lp_xf R hn1 (Nat.le_refl _) X4) (Nat.le_refl _) _ _ _ _ _ _ (by omega) (Nat.le_refl _) hT
        · exact isSm_mono (Lp_up l1 (Nat.lt_succ_self _) (by show s0 ≤ h1.1 + 1; omega)) (Nat.le_refl _) _ _ _ _ _ _ (by omega) (Nat.le_refl _) T3
      refine B j r' _ f h1.1 s0 i0 (w0 ++ res (wkF w k kt u sz) ws ++ [(z, 0)]) okj.2 g1 g2 (by omega) T (by omega) hn1 (by have := X4.1; omega) b3 β _ Q (RW_up R3 o3 l1) B3 (by omega) (FK_sub kf (fun e he => by rw [g4]; exact he) X4) (fun j2 ws2 ks2 a2 h5 b5 p1 p2 R5 T5 X5 B5 => ?_)
      refine ks j2 (ws ++ [(z, 0)] ++ ws2) (ks' ++ [] ++ ks2) a2 h5 b5 (by rw [g3, p1]; rfl) (g4.trans p2) R5 ?_ (X4.trans X5) B5
      show isSm (neF w k) (Lp G (Rg n0 n1 rd (nmA u sz tx) s0) h5) (j2 - i0) (9 - d) a2 (w0 ++ res (wkF w k kt u sz) (ws ++ [(z, 0)] ++ ws2))
      rw [res_app, res_app, rz, ← List.append_assoc, ← List.append_assoc]
      exact T5
    unfold fX7_product_b5
    rw [w_nis C R hi (n := 121) (c := 42) (by decide)]
    by_cases e1 : kdT u sz i = 42
    · have hi1 := tk_lt31 hi e1 (by decide) (by decide)
      unfold pProR at hp
      rw [if_pos (Or.inl e1), if_pos e1] at hp
      rw [if_pos e1, wp_ite, if_neg (by decide)]
      unfold fX7_product_b31
      rw [wp_bnd, w_isC R, wp_bnd]
      refine w_tif C R hi (n := 121) (c := 42) (by decide) (fun h1 _ R1 X1 nh => ?_) (fun q => absurd e1 q)
      rw [wp_ite, if_neg (by decide)]
      unfold fX7_product_b50
      rw [wp_ite, if_neg C.2.2.2.2.2.1]
      exact join (sd_ad G 14) 2 103 h1 R1 X1 nh (by decide) (C.2.2.2.1 14 2 (by decide)) rfl (by decide) hp hi1
    · rw [if_neg e1, wp_ite, if_pos rfl, w_nis C R hi (n := 122) (c := 47) (by decide)]
      by_cases e2 : kdT u sz i = 47
      · have hi1 := tk_lt31 hi e2 (by decide) (by decide)
        unfold pProR at hp
        rw [if_pos (Or.inr e2), if_neg e1] at hp
        rw [if_pos e2, wp_ite, if_neg (by decide)]
        unfold fX7_product_b31
        rw [wp_bnd, w_isC R, wp_bnd]
        refine w_tif C R hi (n := 121) (c := 42) (by decide) (fun h1 q => absurd q e1) (fun _ => ?_)
        rw [wp_ite, if_pos rfl]
        unfold fX7_product_b50
        rw [wp_ite, if_pos rfl]
        refine w_take C R hi (n := 122) (c := 47) (by decide) hb (by omega) (fun h1 _ R1 X1 nh => ?_) (fun q => absurd e2 q)
        exact join (sd_ad G 15) 3 104 h1 R1 X1 nh (by decide) (C.2.2.2.1 15 3 (by decide)) rfl (by decide) hp hi1
      · unfold pProR at hp
        rw [if_neg (by rintro (q | q); exact e1 q; exact e2 q)] at hp
        cases hp
        rw [if_neg e2, wp_ite, if_pos rfl, wp_ret]
        refine ks i [] [] a h b rfl rfl R ?_ xf.refl (bud_le hb (by omega))
        show isSm (neF w k) (Lp G (Rg n0 n1 rd (nmA u sz tx) s0) h) (i - i0) (9 - d) a (w0 ++ [])
        rw [List.append_nil]
        exact hT
theorem w_product {n D : Nat} (C : wlC G)
    (A : ∀ i r h, i ≤ nT u sz → pE (kdT u sz) (vlT u sz) n 4 i d = some r → okw w r → PW G u sz n0 tl ta tx rd w so m k ky nd iv kt n1 ((pRP G D).2.2.2.2.2 rd) 40 0 (fun s h' a j ws => isSm (neF w k) (Lp G (Rg n0 n1 rd (nmA u sz tx) s) h') (j - i) (9 - d) a ws) i d r h)
    (B : ∀ i r h f a s0 i0 w0, i ≤ nT u sz → pE (kdT u sz) (vlT u sz) n 3 i d = some r → okw w r → nT u sz + 1 - i < f → isSm (neF w k) (Lp G (Rg n0 n1 rd (nmA u sz tx) s0) h) (i - i0) (9 - d) a w0 → i0 < i → n1 ≤ s0 → s0 ≤ h.1 → PW G u sz n0 tl ta tx rd w so m k ky nd iv kt n1 (sd_loop (fun k s => fX7_product_b5 G (pRP G D) k s.1 s.2) f (rd, a)) 0 0 (fun _ h' a j ws => isSm (neF w k) (Lp G (Rg n0 n1 rd (nmA u sz tx) s0) h') (j - i0) (9 - d) a (w0 ++ ws)) i d r h) :
    ∀ i r h, i ≤ nT u sz → pE (kdT u sz) (vlT u sz) (n + 1) 2 i d = some r → okw w r → PW G u sz n0 tl ta tx rd w so m k ky nd iv kt n1 ((pRP G (D + 1)).2.2.2.2.1 rd) 40 0 (fun s h' a j ws => isSm (neF w k) (Lp G (Rg n0 n1 rd (nmA u sz tx) s) h') (j - i) (9 - d) a ws) i d r h := by
  intro i r h hi hp ow b β v Q R hb hv kf ks
  have hp : sqc (pE (kdT u sz) (vlT u sz) n 4 i d) (fun j => pE (kdT u sz) (vlT u sz) n 3 j d) = some r := hp
  obtain ⟨r0, e0, ow0, pf0, nx0⟩ := sqc_go (wk := (wkF w k kt u sz)) wk_tot hp ow
  show wp (fX7_product G (pRP G D) rd) h b Q
  unfold fX7_product
  rw [wp_bnd, w_isC R]
  refine PW_bx (A i r0 h hi e0 ow0) R hb hv (FK_sub kf pf0 xf.refl) (fun j ws ks' a' h3 b3 q1 q2 R3 T3 X3 B3 => ?_)
  obtain ⟨r', g1, g2, g3, g4⟩ := nx0 j ws ks' q1 q2
  have okj : i + 1 ≤ j ∧ j ≤ nT u sz := by
    have := pE_ok tkT n 4 i d r0 hi e0
    rw [q1] at this
    exact ⟨this.1, this.2.1⟩
  have lN := nT_le (u := u) (sz := sz)
  refine B j r' h3 sd_FU a' h.1 i (res (wkF w k kt u sz) ws) okj.2 g1 g2 (by unfold sd_FU; omega) T3 (by omega) R.2.1 X3.1 b3 β _ Q R3 B3 (by omega) (FK_sub kf (fun e he => by rw [g4]; exact he) X3) (fun j2 ws2 ks2 a2 h5 b5 p1 p2 R5 T5 X5 B5 => ?_)
  refine ks j2 (ws ++ ws2) (ks' ++ ks2) a2 h5 b5 (by rw [g3, p1]; rfl) (g4.trans p2) R5 ?_ (X3.trans X5) B5
  show isSm (neF w k) (Lp G (Rg n0 n1 rd (nmA u sz tx) h.1) h5) (j2 - i) (9 - d) a2 (res (wkF w k kt u sz) (ws ++ ws2))
  rw [res_app]
  exact T5
end WCH
