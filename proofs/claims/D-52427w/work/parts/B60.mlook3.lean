/-! THE PLAIN LAW: the model's second look, line by line -/
/-- tokens as the model holds them: kinds, places, meanings, numbers, names -/
def TD (κ pl nb nw : Nat → Nat) (N : Nat) (e : Nat → Int32) (x : Nat → Nat → Int32) (y : Nat → Nat → Int64) : Prop := ∀ k, k ≤ N → x 5 k = n3 (κ k) ∧ κ k < 1000 ∧ x 6 k = n3 (pl k) ∧ x 7 k = e k ∧ (κ k = 31 → y 8 k = n6 (nb k) ∧ nb k < 1000000) ∧ (κ k = 30 → y 8 k = n6 (nw k) ∧ nw k < 9223372036854775808)
/-- what is told so far, as the model holds it -/
def SL (t : Nat) (S : SS) (v : Nat → Int32) (y : Nat → Nat → Int64) : Prop := v 10 = n3 t ∧ v 20 = n3 (S.1 20) ∧ v 21 = n3 (S.1 21) ∧ v 22 = n3 (S.1 22) ∧ v 26 = n3 (S.1 26) ∧ v 32 = n3 (S.1 32) ∧ (∀ k, k < S.1 22 → y 23 k = n6 (S.2.1 k) ∧ S.2.1 k < 9223372036854775808) ∧ (2 ≤ S.1 20 ∧ S.1 20 ≤ 8) ∧ (2 ≤ S.1 21 ∧ S.1 21 ≤ 10) ∧ S.1 22 ≤ 6 ∧ S.1 26 ≤ 24 ∧ S.1 32 ≤ 16
def vk (v v' : Nat → Int32) : Prop := ∀ j, j ≠ 3 → j ≠ 13 → j ≠ 14 → j ≠ 20 → j ≠ 21 → j ≠ 22 → j ≠ 26 → j ≠ 32 → v' j = v j
def xk (x x' : Nat → Nat → Int32) : Prop := (∀ j, j < 20 → j ≠ 9 → x' j = x j) ∧ ∀ j, 32 < j → x' j = x j
def yk (y y' : Nat → Nat → Int64) : Prop := ∀ j, j ≠ 23 → y' j = y j
theorem vk.refl {v : Nat → Int32} : vk v v := fun _ _ _ _ _ _ _ _ _ => rfl
theorem vk.trans {v v' v'' : Nat → Int32} (h : vk v v') (h' : vk v' v'') : vk v v'' := fun j a1 a2 a3 a4 a5 a6 a7 a8 => (h' j a1 a2 a3 a4 a5 a6 a7 a8).trans (h j a1 a2 a3 a4 a5 a6 a7 a8)
theorem vk_upd {v : Nat → Int32} {k : Nat} {z : Int32} (h : k = 3 ∨ k = 13 ∨ k = 14 ∨ k = 20 ∨ k = 21 ∨ k = 22 ∨ k = 26 ∨ k = 32) : vk v (upd v k z) := fun j a1 a2 a3 a4 a5 a6 a7 a8 => upd_ne (by omega)
theorem xk.refl {x : Nat → Nat → Int32} : xk x x := ⟨fun _ _ _ => rfl, fun _ _ => rfl⟩
theorem xk.trans {x x' x'' : Nat → Nat → Int32} (h : xk x x') (h' : xk x' x'') : xk x x'' := ⟨fun j a b => (h'.1 j a b).trans (h.1 j a b), fun j a => (h'.2 j a).trans (h.2 j a)⟩
theorem xk_up {x : Nat → Nat → Int32} {i a : Nat} {z : Int32} (h : i = 9 ∨ (20 ≤ i ∧ i ≤ 32)) : xk x (up2 x i a z) := ⟨fun j h1 h2 => up2_ne (by omega), fun j h1 => up2_ne (by omega)⟩
theorem yk.refl {y : Nat → Nat → Int64} : yk y y := fun _ _ => rfl
theorem yk_up {y : Nat → Nat → Int64} {a : Nat} {z : Int64} : yk y (up2L y 23 a z) := fun j h => if_neg h
theorem yk.trans {y y' y'' : Nat → Nat → Int64} (h : yk y y') (h' : yk y' y'') : yk y y'' := fun j a => (h' j a).trans (h j a)
theorem TD.keep {κ pl nb nw : Nat → Nat} {N : Nat} {e : Nat → Int32} {x x' : Nat → Nat → Int32} {y y' : Nat → Nat → Int64} (h : TD κ pl nb nw N e x y) (hx : xk x x') (hy : yk y y') : TD κ pl nb nw N e x' y' := by
  intro k hk
  rw [hx.1 5 (by decide) (by decide), hx.1 6 (by decide) (by decide), hx.1 7 (by decide) (by decide), hy 8 (by decide)]
  exact h k hk
def LPr (G : sd_G) (ad : Nat → Nat) (fu k : Nat) : sd_M Int32 := sd_loop (fun k s => fX5_read_b44 G k s.1 s.2.1 s.2.2) fu (ad 0, ad 20, n3 k)
section MLL
variable {n : Nat} {ρ : Nat → Option Nat} {ad : Nat → Nat} {K : Nat → Option sd_E} {v : Nat → Int32} {x : Nat → Nat → Int32} {y : Nat → Nat → Int64} {G : sd_G} {b : Nat × Nat} {k t fu : Nat} {κ pl nb nw : Nat → Nat} {N : Nat} {e : Nat → Int32} {S : SS}
theorem lp_st {Q : Int32 → sd_H → Nat × Nat → Prop} (E : mOk n ρ ad) (h10 : v 10 = n3 t) (ht : t ≤ 400) (hk : k < t) (W : wp (fX5_errorOf G (ad 0) (ad 20) (n3 k)) (hMo n ρ ad K v x y) b (fun r h1 b1 => if r = 0 then wp (LPr G ad fu (k + 1)) h1 b1 Q else wp (sd_bnd (sd_getR G 4 6 (ad 0)) fun v4 => sd_bnd (sd_aldI G 0 v4 (n3 k)) fun v5 => sd_bnd (sd_put 4 3 .int (ad 0) (.int v5)) fun _ => sd_ret r) h1 b1 Q)) : wp (LPr G ad (fu + 1) k) (hMo n ρ ad K v x y) b Q := by
  show wp (fX5_read_b44 G (sd_loop (fun k s => fX5_read_b44 G k s.1 s.2.1 s.2.2) fu) (ad 0) (ad 20) (n3 k)) _ b Q
  rw [fX5_read_b44, wp_bnd, hMo_getI4 E rfl, h10, wp_ite, if_neg (by rw [n3_le (by omega) (by omega)]; omega), wp_bnd, hMo_isC4 E, wp_bnd]
  refine wp_mono W (fun r h1 b1 w => ?_)
  rw [wp_ite]
  by_cases c : r = 0
  · rw [if_pos c] at w ⊢
    rw [wp_bnd, wp_ret, n3_suc]
    exact w
  · rw [if_neg c] at w ⊢
    exact w
/-- an error at token k -/
theorem lp_er {er : Nat} {v' : Nat → Int32} {x' : Nat → Nat → Int32} {y' : Nat → Nat → Int64} {Q : Int32 → sd_H → Nat × Nat → Prop} (E : mOk n ρ ad) (hk : k ≤ 400) (h6 : x' 6 k = n3 (pl k)) (he : er ≠ 0) (he2 : er < 1000) (kk : Q (n3 er) (hMo n ρ ad K (upd v' 3 (n3 (pl k))) x' y') b) : (if n3 er = 0 then wp (LPr G ad fu (k + 1)) (hMo n ρ ad K v' x' y') b Q else wp (sd_bnd (sd_getR G 4 6 (ad 0)) fun v4 => sd_bnd (sd_aldI G 0 v4 (n3 k)) fun v5 => sd_bnd (sd_put 4 3 .int (ad 0) (.int v5)) fun _ => sd_ret (n3 er)) (hMo n ρ ad K v' x' y') b Q) := by
  rw [if_neg (show ¬ n3 er = 0 from by rw [show (0 : Int32) = n3 0 from rfl, n3_eq (by omega) (by omega)]; exact he), wp_bnd, hMo_getR4 E rfl, wp_bnd, ra_6 E (by omega), h6, wp_bnd]
  simp (disch := omega) only [↓mFl E, ↓mPu E, wp_ret]
  exact kk
theorem lp_0 {Q : Int32 → sd_H → Nat × Nat → Prop} (E : mOk n ρ ad) (h10 : v 10 = n3 t) (ht : t ≤ 400) (hk : k < t) (hz : x 7 k = 0) (kk : wp (LPr G ad fu (k + 1)) (hMo n ρ ad K v x y) b Q) : wp (LPr G ad (fu + 1) k) (hMo n ρ ad K v x y) b Q := by
  refine lp_st E h10 ht hk ?_
  rw [e_0 E (by omega) hz, if_pos rfl]
  exact kk
/-- what comes behind an error -/
def kE (pl : Nat → Nat) (n : Nat) (ρ : Nat → Option Nat) (ad : Nat → Nat) (K : Nat → Option sd_E) (v : Nat → Int32) (x : Nat → Nat → Int32) (y : Nat → Nat → Int64) (b : Nat × Nat) (Q : Int32 → sd_H → Nat × Nat → Prop) (er k : Nat) : Prop := ∀ v' x' y', vk v v' → v' 3 = n3 (pl k) → xk x x' → yk y y' → Q (n3 er) (hMo n ρ ad K v' x' y') b
/-- behind a line -/
def kL (G : sd_G) (pl : Nat → Nat) (t n : Nat) (ρ : Nat → Option Nat) (ad : Nat → Nat) (K : Nat → Option sd_E) (v : Nat → Int32) (x : Nat → Nat → Int32) (y : Nat → Nat → Int64) (b : Nat × Nat) (Q : Int32 → sd_H → Nat × Nat → Prop) (j : Nat) : SS ⊕ (Nat × Nat) → Prop
  | .inr (er, k) => kE pl n ρ ad K v x y b Q er k
  | .inl S' => ∀ v' y' fu, vk v v' → v' 3 = v 3 → SL t S' v' y' → xk x S'.2.2 → yk y y' → t - j < fu → wp (LPr G ad fu j) (hMo n ρ ad K v' S'.2.2 y') b Q
theorem SL_v {v' : Nat → Int32} (h : SL t S v y) (h10 : v' 10 = v 10) (h20 : v' 20 = v 20) (h21 : v' 21 = v 21) (h22 : v' 22 = v 22) (h26 : v' 26 = v 26) (h32 : v' 32 = v 32) : SL t S v' y := by
  unfold SL at h ⊢
  rw [h10, h20, h21, h22, h26, h32]
  exact h
theorem l_emp {i : Nat} {Q : Int32 → sd_H → Nat × Nat → Prop} (E : mOk n ρ ad) (D : TD κ pl nb nw N e S.2.2 y) (L : SL t S v y) (htN : t ≤ N) (h400 : N ≤ 400) (hi : i + 7 ≤ t) (hf : t - i < fu) (k1 : κ (i + 1) = 30) (k3 : κ (i + 3) = 31) (k5 : κ (i + 5) = 31) (m0 : e i = 0) (m1 : e (i + 1) = 3) (m2 : e (i + 2) = 0) (m3 : e (i + 3) = 4) (m4 : e (i + 4) = 0) (m5 : e (i + 5) = 5) (m6 : e (i + 6) = 0) (kk : kL G pl t n ρ ad K v S.2.2 y b Q (i + 7) (lEmp nb nw S i)) : wp (LPr G ad fu i) (hMo n ρ ad K v S.2.2 y) b Q := by
  obtain ⟨fu, rfl⟩ : ∃ q, fu = q + 7 := ⟨fu - 7, by omega⟩
  have hft : t - (i + 7) < fu := by omega
  have L0 := L
  obtain ⟨s10, s20, s21, s22, s26, s32, sn, b20, b21, b22, b26, b32⟩ := L
  have d0 := D i (by omega)
  have d1 := D (i + 1) (by omega)
  have d2 := D (i + 2) (by omega)
  have d3 := D (i + 3) (by omega)
  have d4 := D (i + 4) (by omega)
  have d5 := D (i + 5) (by omega)
  have d6 := D (i + 6) (by omega)
  unfold lEmp at kk
  refine lp_0 E s10 (by omega) (by omega) (d0.2.2.2.1.trans m0) ?_
  refine lp_st E s10 (by omega) (by omega) ?_
  obtain ⟨y1, y2⟩ := d1.2.2.2.2.2 k1
  obtain ⟨y3, y4⟩ := d3.2.2.2.2.1 k3
  obtain ⟨y5, y6⟩ := d5.2.2.2.2.1 k5
  rw [e_3 E (by omega) (d1.2.2.2.1.trans m1), y1, f_newEmp E s22 b22 sn y2]
  have fe : fnN S.2.1 (nw (i + 1)) (S.1 22) 0 = fnd S (nw (i + 1)) := rfl
  rw [fe]
  by_cases c1 : (fnd S (nw (i + 1))).isSome = true
  · rw [if_pos c1] at kk ⊢
    exact lp_er E (by omega) d1.2.2.1 (by decide) (by decide) (kk _ _ _ (vk_upd (by omega)) (upd_same _ _ _) xk.refl yk.refl)
  · rw [if_neg c1] at kk ⊢
    by_cases c2 : S.1 22 = 6
    · rw [if_pos c2] at kk ⊢
      exact lp_er E (by omega) d1.2.2.1 (by decide) (by decide) (kk _ _ _ (vk_upd (by omega)) (upd_same _ _ _) xk.refl yk.refl)
    · rw [if_neg c2] at kk ⊢
      rw [if_pos rfl]
      refine lp_0 (t := t) E s10 (by omega) (by omega) (d2.2.2.2.1.trans m2) ?_
      refine lp_st (t := t) E s10 (by omega) (by omega) ?_
      have y3' : up2L y 23 (S.1 22) (n6 (nw (i + 1))) 8 (i + 3) = n6 (nb (i + 3)) := y3
      have y5' : up2L y 23 (S.1 22) (n6 (nw (i + 1))) 8 (i + 5) = n6 (nb (i + 5)) := y5
      rw [e_4 E (by omega) (d3.2.2.2.1.trans m3), y3', f_begin E y4 (upd_same _ _ _) (by omega)]
      by_cases c3 : 999 < nb (i + 3)
      · rw [if_pos c3] at kk ⊢
        exact lp_er E (by omega) d3.2.2.1 (by decide) (by decide) (kk _ _ _ ((vk_upd (by omega)).trans (vk_upd (by omega))) (upd_same _ _ _) xk.refl yk_up)
      · rw [if_neg c3] at kk ⊢
        rw [if_pos rfl]
        refine lp_0 (t := t) E s10 (by omega) (by omega) (d4.2.2.2.1.trans m4) ?_
        refine lp_st (t := t) E s10 (by omega) (by omega) ?_
        rw [e_5 E (by omega) (show up2 S.2.2 24 (S.1 22) (n3 (nb (i + 3))) 7 (i + 5) = 5 from d5.2.2.2.1.trans m5), y5', f_end E y6 (upd_same _ _ _) (by omega) (by rw [up2_at, upd_same]) y4]
        by_cases c4 : 999 < nb (i + 5) ∨ nb (i + 5) < nb (i + 3)
        · rw [if_pos c4] at kk ⊢
          exact lp_er E (by omega) d5.2.2.1 (by decide) (by decide) (kk _ _ _ ((vk_upd (by omega)).trans (vk_upd (by omega))) (upd_same _ _ _) (xk_up (by omega)) yk_up)
        · rw [if_neg c4] at kk ⊢
          rw [if_pos rfl]
          refine lp_0 (t := t) E s10 (by omega) (by omega) (d6.2.2.2.1.trans m6) ?_
          have hx1 : xk S.2.2 (up2 (up2 S.2.2 24 (S.1 22) (n3 (nb (i + 3)))) 25 (S.1 22) (n3 (nb (i + 5)))) := xk.trans (xk_up (i := 24) (by omega)) (xk_up (i := 25) (by omega))
          have hv1 : vk v (upd v 22 (n3 (S.1 22 + 1))) := vk_upd (by omega)
          have hv3 : upd v 22 (n3 (S.1 22 + 1)) 3 = v 3 := upd_ne (by decide)
          have hy1 : yk y (up2L y 23 (S.1 22) (n6 (nw (i + 1)))) := yk_up
          have u20 : updN S.1 22 (S.1 22 + 1) 20 = S.1 20 := updN_ne (by decide)
          have u21 : updN S.1 22 (S.1 22 + 1) 21 = S.1 21 := updN_ne (by decide)
          have u26 : updN S.1 22 (S.1 22 + 1) 26 = S.1 26 := updN_ne (by decide)
          have u32 : updN S.1 22 (S.1 22 + 1) 32 = S.1 32 := updN_ne (by decide)
          have hL : SL t (updN S.1 22 (S.1 22 + 1), updN S.2.1 (S.1 22) (nw (i + 1)), up2 (up2 S.2.2 24 (S.1 22) (n3 (nb (i + 3)))) 25 (S.1 22) (n3 (nb (i + 5)))) (upd v 22 (n3 (S.1 22 + 1))) (up2L y 23 (S.1 22) (n6 (nw (i + 1)))) := by
            unfold SL
            simp only [u20, u21, u26, u32]
            refine ⟨(upd_ne (by decide)).trans s10, (upd_ne (by decide)).trans s20, (upd_ne (by decide)).trans s21, ?_, (upd_ne (by decide)).trans s26, (upd_ne (by decide)).trans s32, fun k hk => ?_, b20, b21, ?_, b26, b32⟩
            · rw [upd_same, updN_same]
            · rw [updN_same] at hk
              by_cases ck : k = S.1 22
              · rw [ck, updN_same]
                refine ⟨?_, y2⟩
                unfold up2L
                rw [if_pos rfl]
                exact if_pos rfl
              · rw [updN_ne ck]
                have := sn k (by omega)
                refine ⟨?_, this.2⟩
                rw [← this.1]
                unfold up2L
                rw [if_pos rfl]
                exact if_neg ck
            · rw [updN_same]
              omega
          exact kk (upd v 22 (n3 (S.1 22 + 1))) (up2L y 23 (S.1 22) (n6 (nw (i + 1)))) fu hv1 hv3 hL hx1 hy1 hft
/-- a place: seat and stratum; isp: a spring -/
theorem l_pla {i : Nat} {isp : Bool} {nf : Nat} {Q : Int32 → sd_H → Nat × Nat → Prop} (E : mOk n ρ ad) (D : TD κ pl nb nw N e x y) (hS : ∀ j, j = 30 ∨ j = 31 → x j = S.2.2 j) (s10 : v 10 = n3 t) (s20 : v 20 = n3 (S.1 20)) (s21 : v 21 = n3 (S.1 21)) (b20 : S.1 20 ≤ 8) (b21 : S.1 21 ≤ 10) (h26 : v 26 = n3 nf) (hnf : nf ≤ 24) (hf1 : isp = false → 1 ≤ nf) (hsp : isp = true → κ i = 7) (hsp2 : isp = false → κ i ≠ 7 ∧ v 13 = 0) (htN : t ≤ N) (h400 : N ≤ 400) (hi : i + 5 ≤ t) (k2 : κ (i + 2) = 31) (k4 : κ (i + 4) = 31) (m1 : e (i + 1) = 0) (m2 : e (i + 2) = 7) (m3 : e (i + 3) = 0) (m4 : e (i + 4) = 8) (kk : match lPla nb S i (!isp) with
    | .inr (er, k) => kE pl n ρ ad K v x y b Q er k
    | .inl c => ∀ v', vk v v' → v' 3 = v 3 → v' 10 = v 10 → v' 20 = v 20 → v' 21 = v 21 → v' 22 = v 22 → v' 26 = v 26 → v' 32 = v 32 → wp (LPr G ad fu (i + 5)) (hMo n ρ ad K v' (if isp = true then up2 x 31 c 1 else up2 (up2 x 30 c (n3 (nf - 1))) 28 (nf - 1) (n3 c)) y) b Q) : wp (LPr G ad (fu + 4) (i + 1)) (hMo n ρ ad K v x y) b Q := by
  have d0 := D i (by omega)
  have d1 := D (i + 1) (by omega)
  have d2 := D (i + 2) (by omega)
  have d3 := D (i + 3) (by omega)
  have d4 := D (i + 4) (by omega)
  obtain ⟨y2, y2'⟩ := d2.2.2.2.2.1 k2
  obtain ⟨y4, y4'⟩ := d4.2.2.2.2.1 k4
  unfold lPla at kk
  refine lp_0 E s10 (by omega) (by omega) (d1.2.2.2.1.trans m1) ?_
  refine lp_st E s10 (by omega) (by omega) ?_
  rw [e_7 E (by omega) (d2.2.2.2.1.trans m2), f_seat (c := κ i) E (by omega) (by omega) (show x 5 (i + 2 - 2) = n3 (κ i) from d0.1) d0.2.1 y2 y2' s20 b20]
  have vq : vk v (if κ i = 7 then upd v 13 1 else v) := by
    by_cases c : κ i = 7
    · rw [if_pos c]
      exact vk_upd (by omega)
    · rw [if_neg c]
      exact vk.refl
  by_cases c1 : nb (i + 2) < S.1 20
  · rw [if_neg (by omega)] at kk
    rw [if_pos c1, if_pos rfl]
    have g10 : ∀ j, j ≠ 13 → j ≠ 14 → upd (if κ i = 7 then upd v 13 1 else v) 14 (n3 (nb (i + 2))) j = v j := by
      intro j h1 h2
      rw [upd_ne h2]
      by_cases c : κ i = 7
      · rw [if_pos c, upd_ne h1]
      · rw [if_neg c]
    refine lp_0 (t := t) E ((g10 10 (by decide) (by decide)).trans s10) (by omega) (by omega) (d3.2.2.2.1.trans m3) ?_
    refine lp_st (t := t) E ((g10 10 (by decide) (by decide)).trans s10) (by omega) (by omega) ?_
    have g13 : upd (if κ i = 7 then upd v 13 1 else v) 14 (n3 (nb (i + 2))) 13 = bI isp := by
      rw [upd_ne (by decide)]
      cases isp with
      | true =>
        rw [if_pos (hsp rfl), upd_same]
        rfl
      | false =>
        rw [if_neg (hsp2 rfl).1, (hsp2 rfl).2]
        rfl
    rw [e_8 E (by omega) (d4.2.2.2.1.trans m4), y4, f_strat (isp := isp) (nf := nf) E y4' ((g10 21 (by decide) (by decide)).trans s21) b21 (upd_same _ _ _) (by omega) g13 ((g10 26 (by decide) (by decide)).trans h26) hnf hf1]
    have vq2 : vk v (upd (if κ i = 7 then upd v 13 1 else v) 14 (n3 (nb (i + 2)))) := vq.trans (vk_upd (by omega))
    by_cases c2 : S.1 21 ≤ nb (i + 4)
    · rw [if_pos c2] at kk ⊢
      exact lp_er E (by omega) d4.2.2.1 (by decide) (by decide) (kk _ _ _ (vq2.trans (vk_upd (by omega))) (upd_same _ _ _) xk.refl yk.refl)
    · rw [if_neg c2] at kk ⊢
      have fin : ∀ c, (∀ v', vk v v' → v' 3 = v 3 → v' 10 = v 10 → v' 20 = v 20 → v' 21 = v 21 → v' 22 = v 22 → v' 26 = v 26 → v' 32 = v 32 → wp (LPr G ad fu (i + 5)) (hMo n ρ ad K v' (if isp = true then up2 x 31 c 1 else up2 (up2 x 30 c (n3 (nf - 1))) 28 (nf - 1) (n3 c)) y) b Q) → wp (LPr G ad fu (i + 5)) (hMo n ρ ad K (upd (if κ i = 7 then upd v 13 1 else v) 14 (n3 (nb (i + 2)))) (if isp = true then up2 x 31 c 1 else up2 (up2 x 30 c (n3 (nf - 1))) 28 (nf - 1) (n3 c)) y) b Q := fun c h => h _ vq2 (g10 3 (by decide) (by decide)) (g10 10 (by decide) (by decide)) (g10 20 (by decide) (by decide)) (g10 21 (by decide) (by decide)) (g10 22 (by decide) (by decide)) (g10 26 (by decide) (by decide)) (g10 32 (by decide) (by decide))
      cases isp with
      | true =>
        have e31 : x 31 = S.2.2 31 := hS 31 (Or.inr rfl)
        rw [if_pos rfl, e31]
        by_cases c3 : S.2.2 31 (10 * nb (i + 2) + nb (i + 4)) ≠ 0
        · rw [if_pos (show (if (!true) = true then S.2.2 30 (10 * nb (i + 2) + nb (i + 4)) ≠ -1 else S.2.2 31 (10 * nb (i + 2) + nb (i + 4)) ≠ 0) from c3)] at kk
          rw [if_pos c3]
          exact lp_er E (by omega) d4.2.2.1 (by decide) (by decide) (kk _ _ _ (vq2.trans (vk_upd (by omega))) (upd_same _ _ _) xk.refl yk.refl)
        · rw [if_neg (show ¬ (if (!true) = true then S.2.2 30 (10 * nb (i + 2) + nb (i + 4)) ≠ -1 else S.2.2 31 (10 * nb (i + 2) + nb (i + 4)) ≠ 0) from c3)] at kk
          rw [if_neg c3, if_pos rfl]
          have := fin _ kk
          rw [if_pos rfl] at this
          exact this
      | false =>
        have e30 : x 30 = S.2.2 30 := hS 30 (Or.inl rfl)
        rw [if_neg (show ¬ false = true by decide), e30]
        by_cases c3 : S.2.2 30 (10 * nb (i + 2) + nb (i + 4)) ≠ -1
        · rw [if_pos (show (if (!false) = true then S.2.2 30 (10 * nb (i + 2) + nb (i + 4)) ≠ -1 else S.2.2 31 (10 * nb (i + 2) + nb (i + 4)) ≠ 0) from c3)] at kk
          rw [if_pos c3]
          exact lp_er E (by omega) d4.2.2.1 (by decide) (by decide) (kk _ _ _ (vq2.trans (vk_upd (by omega))) (upd_same _ _ _) xk.refl yk.refl)
        · rw [if_neg (show ¬ (if (!false) = true then S.2.2 30 (10 * nb (i + 2) + nb (i + 4)) ≠ -1 else S.2.2 31 (10 * nb (i + 2) + nb (i + 4)) ≠ 0) from c3)] at kk
          rw [if_neg c3, if_pos rfl]
          have := fin _ kk
          rw [if_neg (show ¬ false = true by decide)] at this
          exact this
  · rw [if_pos (by omega)] at kk
    rw [if_neg c1]
    exact lp_er E (by omega) d2.2.2.1 (by decide) (by decide) (kk _ _ _ (vq.trans (vk_upd (by omega))) (upd_same _ _ _) xk.refl yk.refl)
end MLL
