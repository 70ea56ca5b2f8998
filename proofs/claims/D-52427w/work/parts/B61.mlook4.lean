/-! THE PLAIN LAW: the model's second look: springs, finds, orders, all lines -/
theorem up2_com {x : Nat → Nat → Int32} {i j a c : Nat} {z w : Int32} (h : i ≠ j) : up2 (up2 x i a z) j c w = up2 (up2 x j c w) i a z := by
  funext l
  by_cases h1 : l = j
  · subst h1
    rw [up2_at, up2_ne h.symm, up2_ne h.symm, up2_at]
  · rw [up2_ne h1]
    by_cases h2 : l = i
    · subst h2
      rw [up2_at, up2_at, up2_ne h]
    · rw [up2_ne h2, up2_ne h2, up2_ne h1]
section ML5
variable {n : Nat} {ρ : Nat → Option Nat} {ad : Nat → Nat} {K : Nat → Option sd_E} {v : Nat → Int32} {y : Nat → Nat → Int64} {G : sd_G} {b : Nat × Nat} {t fu : Nat} {κ pl nb nw : Nat → Nat} {N : Nat} {e : Nat → Int32} {S : SS}
theorem l_spr {i : Nat} {Q : Int32 → sd_H → Nat × Nat → Prop} (E : mOk n ρ ad) (D : TD κ pl nb nw N e S.2.2 y) (L : SL t S v y) (htN : t ≤ N) (h400 : N ≤ 400) (hi : i + 6 ≤ t) (hf : t - i < fu) (k0 : κ i = 7) (k2 : κ (i + 2) = 31) (k4 : κ (i + 4) = 31) (m0 : e i = 0) (m1 : e (i + 1) = 0) (m2 : e (i + 2) = 7) (m3 : e (i + 3) = 0) (m4 : e (i + 4) = 8) (m5 : e (i + 5) = 0) (kk : kL G pl t n ρ ad K v S.2.2 y b Q (i + 6) (lSpr nb S i)) : wp (LPr G ad fu i) (hMo n ρ ad K v S.2.2 y) b Q := by
  obtain ⟨fu, rfl⟩ : ∃ q, fu = q + 1 + 4 + 1 := ⟨fu - 6, by omega⟩
  have hft : t - (i + 6) < fu := by omega
  have t1 : i < t := by omega
  have t5 : i + 5 < t := by omega
  have t5' : i + 5 ≤ t := by omega
  have t4 : t ≤ 400 := by omega
  have d0 := D i (by omega)
  have d5 := D (i + 5) (by omega)
  have L0 := L
  obtain ⟨s10, s20, s21, s22, s26, s32, sn, b20, b21, b22, b26, b32⟩ := L
  refine lp_0 E s10 t4 t1 (d0.2.2.2.1.trans m0) ?_
  refine l_pla (isp := true) (nf := S.1 26) E D (fun _ _ => rfl) s10 s20 s21 b20.2 b21.2 s26 b26 (fun h => by cases h) (fun _ => k0) (fun h => by cases h) htN h400 t5' k2 k4 m1 m2 m3 m4 ?_
  unfold lSpr at kk
  show match lPla nb S i false with
    | .inr (er, k) => _
    | .inl c => _
  cases hp : lPla nb S i false with
  | inr er =>
    rw [hp] at kk
    exact kk
  | inl c =>
    rw [hp] at kk
    intro v' a1 a2 a3 a4 a5 a6 a7 a8
    rw [if_pos rfl]
    have hx : xk S.2.2 (up2 S.2.2 31 c 1) := xk_up (i := 31) (by decide)
    refine lp_0 (t := t) E (a3.trans s10) t4 t5 ((D.keep hx yk.refl _ (by omega)).2.2.2.1.trans m5) ?_
    exact kk v' y fu a1 a2 (SL_v L0 a3 a4 a5 a6 a7 a8) hx yk.refl hft
theorem l_fin {i : Nat} {co : Bool} {Q : Int32 → sd_H → Nat × Nat → Prop} (E : mOk n ρ ad) (D : TD κ pl nb nw N e S.2.2 y) (L : SL t S v y) (htN : t ≤ N) (h400 : N ≤ 400) (hi : i + 8 ≤ t) (hf : t - i < fu) (k0 : κ i = if co = true then 5 else 6) (k2 : κ (i + 2) = 31) (k4 : κ (i + 4) = 31) (k6 : κ (i + 6) = if co = true then 31 else 30) (m0 : e i = 6) (m1 : e (i + 1) = 0) (m2 : e (i + 2) = 7) (m3 : e (i + 3) = 0) (m4 : e (i + 4) = 8) (m5 : e (i + 5) = 0) (m6 : e (i + 6) = if co = true then 9 else 10) (m7 : e (i + 7) = 0) (kk : kL G pl t n ρ ad K v S.2.2 y b Q (i + 8) (lFin nb nw S i co)) : wp (LPr G ad fu i) (hMo n ρ ad K v S.2.2 y) b Q := by
  obtain ⟨fu, rfl⟩ : ∃ q, fu = q + 1 + 1 + 1 + 4 + 1 := ⟨fu - 8, by omega⟩
  have hft : t - (i + 8) < fu := by omega
  have t1 : i < t := by omega
  have i4 : i ≤ 400 := by omega
  have i64 : i + 6 ≤ 400 := by omega
  have t5 : i + 5 < t := by omega
  have t6 : i + 6 < t := by omega
  have t7 : i + 7 < t := by omega
  have t5' : i + 5 ≤ t := by omega
  have t4 : t ≤ 400 := by omega
  have n5 : i + 5 ≤ N := by omega
  have n6' : i + 6 ≤ N := by omega
  have n7 : i + 7 ≤ N := by omega
  have d0 := D i (by omega)
  have d6 := D (i + 6) n6'
  have L0 := L
  obtain ⟨s10, s20, s21, s22, s26, s32, sn, b20, b21, b22, b26, b32⟩ := L
  refine lp_st E s10 t4 t1 ?_
  have ec : decide (κ i = 5) = co := by
    cases co
    · rw [k0]
      rfl
    · rw [k0]
      rfl
  rw [e_6 (c := κ i) E i4 (d0.2.2.2.1.trans m0) d0.1 (by cases co; exact Or.inr k0; exact Or.inl k0), ec, f_newFind E s26 b26]
  unfold lFin at kk
  by_cases c1 : S.1 26 = 24
  · rw [if_pos c1] at kk ⊢
    exact lp_er E i4 d0.2.2.1 (by decide) (by decide) (kk _ _ _ ((vk_upd (k := 13) (by decide)).trans (vk_upd (k := 3) (by decide))) (upd_same _ _ _) xk.refl yk.refl)
  · rw [if_neg c1] at kk ⊢
    rw [if_pos rfl]
    have hnf : S.1 26 + 1 ≤ 24 := by omega
    have hnf2 : S.1 26 < 24 := by omega
    have hx0 : xk S.2.2 (up2 S.2.2 27 (S.1 26) (bI co)) := xk_up (i := 27) (by decide)
    have vq : vk v (upd (upd v 13 0) 26 (n3 (S.1 26 + 1))) := (vk_upd (k := 13) (by decide)).trans (vk_upd (k := 26) (by decide))
    refine l_pla (S := S) (isp := false) (nf := S.1 26 + 1) E (D.keep hx0 yk.refl) (fun j hj => up2_ne (by rcases hj with rfl | rfl <;> decide)) s10 s20 s21 b20.2 b21.2 (upd_same _ _ _) hnf (fun _ => Nat.le_add_left _ _) (fun h => by cases h) (fun _ => ⟨by rw [k0]; cases co <;> decide, (upd_ne (by decide)).trans (upd_same _ _ _)⟩) htN h400 t5' k2 k4 m1 m2 m3 m4 ?_
    show match lPla nb S i true with
      | .inr (er, k) => _
      | .inl c => _
    cases hp : lPla nb S i true with
    | inr er =>
      rw [hp] at kk
      intro v' x' y' q1 q2 q3 q4
      exact kk v' x' y' (vq.trans q1) q2 (hx0.trans q3) q4
    | inl c =>
      rw [hp] at kk
      intro v' a1 a2 a3 a4 a5 a6 a7 a8
      rw [if_neg (show ¬ false = true by decide), show S.1 26 + 1 - 1 = S.1 26 from rfl]
      have hx1 : xk S.2.2 (up2 (up2 (up2 S.2.2 27 (S.1 26) (bI co)) 30 c (n3 (S.1 26))) 28 (S.1 26) (n3 c)) := (hx0.trans (xk_up (i := 30) (by decide))).trans (xk_up (i := 28) (by decide))
      have D1 := D.keep hx1 yk.refl
      have w10 : v' 10 = n3 t := a3.trans s10
      have w26 : v' 26 = n3 (S.1 26 + 1) := a7.trans (upd_same _ _ _)
      have w3 : v' 3 = v 3 := a2.trans ((upd_ne (by decide)).trans (upd_ne (by decide)))
      have wvk : vk v v' := vq.trans a1
      refine lp_0 (t := t) E w10 t4 t5 ((D1 _ n5).2.2.2.1.trans m5) ?_
      refine lp_st (t := t) E w10 t4 t6 ?_
      have u20 : updN S.1 26 (S.1 26 + 1) 20 = S.1 20 := updN_ne (by decide)
      have u21 : updN S.1 26 (S.1 26 + 1) 21 = S.1 21 := updN_ne (by decide)
      have u22 : updN S.1 26 (S.1 26 + 1) 22 = S.1 22 := updN_ne (by decide)
      have u26 : updN S.1 26 (S.1 26 + 1) 26 = S.1 26 + 1 := updN_same _ _ _
      have u32 : updN S.1 26 (S.1 26 + 1) 32 = S.1 32 := updN_ne (by decide)
      have e20 : v' 20 = n3 (S.1 20) := a4.trans s20
      have e21 : v' 21 = n3 (S.1 21) := a5.trans s21
      have e22 : v' 22 = n3 (S.1 22) := a6.trans s22
      have e32 : v' 32 = n3 (S.1 32) := a8.trans s32
      have hL : ∀ X, SL t (updN S.1 26 (S.1 26 + 1), S.2.1, X) v' y := by
        intro X
        unfold SL
        simp only [u20, u21, u22, u26, u32]
        exact ⟨w10, e20, e21, e22, w26, e32, sn, b20, b21, b22, hnf, b32⟩
      cases co with
      | true =>
        have k6 : κ (i + 6) = 31 := k6
        have m6 : e (i + 6) = 9 := m6
        obtain ⟨y6, y6'⟩ := d6.2.2.2.2.1 k6
        rw [e_9 E i64 ((D1 _ n6').2.2.2.1.trans m6), y6, f_year E y6' w26 hnf2]
        have kk : kL G pl t n ρ ad K v S.2.2 y b Q (i + 8) (if 999 < nb (i + 6) then .inr (5, i + 6) else .inl (updN S.1 26 (S.1 26 + 1), S.2.1, up2 (up2 (up2 (up2 S.2.2 27 (S.1 26) 1) 30 c (n3 (S.1 26))) 28 (S.1 26) (n3 c)) 29 (S.1 26) (n3 (nb (i + 6))))) := kk
        by_cases c2 : 999 < nb (i + 6)
        · rw [if_pos c2] at kk ⊢
          exact lp_er E i64 (D1 _ n6').2.2.1 (by decide) (by decide) (kk _ _ _ (wvk.trans (vk_upd (k := 3) (by decide))) (upd_same _ _ _) hx1 yk.refl)
        · rw [if_neg c2] at kk ⊢
          rw [if_pos rfl]
          have hx2 : xk S.2.2 (up2 (up2 (up2 (up2 S.2.2 27 (S.1 26) 1) 30 c (n3 (S.1 26))) 28 (S.1 26) (n3 c)) 29 (S.1 26) (n3 (nb (i + 6)))) := hx1.trans (xk_up (i := 29) (by decide))
          refine lp_0 (t := t) E w10 t4 t7 (((D.keep hx2 yk.refl) _ n7).2.2.2.1.trans m7) ?_
          exact kk v' y fu wvk w3 (hL _) hx2 yk.refl hft
      | false =>
        have k6 : κ (i + 6) = 30 := k6
        have m6 : e (i + 6) = 10 := m6
        obtain ⟨y6, y6'⟩ := d6.2.2.2.2.2 k6
        rw [e_10 E i64 ((D1 _ n6').2.2.2.1.trans m6), f_anEmp (nf := S.1 26) E i64 y6 e22 b22 sn y6' ((D1 _ n6').2.2.2.1.trans m6) (fun _ => w26) hnf2]
        have kk : kL G pl t n ρ ad K v S.2.2 y b Q (i + 8) (match fnd S (nw (i + 6)) with
          | none => .inr (3, i + 6)
          | some e => .inl (updN S.1 26 (S.1 26 + 1), S.2.1, up2 (up2 (up2 (up2 (up2 S.2.2 27 (S.1 26) 0) 30 c (n3 (S.1 26))) 28 (S.1 26) (n3 c)) 29 (S.1 26) (n3 e)) 9 (i + 6) (n3 e))) := kk
        have fe : fnN S.2.1 (nw (i + 6)) (S.1 22) 0 = fnd S (nw (i + 6)) := rfl
        rw [fe]
        cases hfd : fnd S (nw (i + 6)) with
        | none =>
          rw [hfd] at kk
          have hx2 := hx1.trans (xk_up (x := up2 (up2 (up2 S.2.2 27 (S.1 26) (bI false)) 30 c (n3 (S.1 26))) 28 (S.1 26) (n3 c)) (i := 9) (a := i + 6) (z := -1) (by decide))
          exact lp_er E i64 (D.keep hx2 yk.refl _ n6').2.2.1 (by decide) (by decide) (kk _ _ _ (wvk.trans (vk_upd (k := 3) (by decide))) (upd_same _ _ _) hx2 yk.refl)
        | some e0 =>
          rw [hfd] at kk
          show if (10 : Int32) = 10 then _ else _
          rw [if_pos rfl, if_pos rfl, up2_com (i := 9) (j := 29) (by decide)]
          have hx2 : xk S.2.2 (up2 (up2 (up2 (up2 (up2 S.2.2 27 (S.1 26) 0) 30 c (n3 (S.1 26))) 28 (S.1 26) (n3 c)) 29 (S.1 26) (n3 e0)) 9 (i + 6) (n3 e0)) := (hx1.trans (xk_up (i := 29) (by decide))).trans (xk_up (i := 9) (by decide))
          refine lp_0 (t := t) E w10 t4 t7 (((D.keep hx2 yk.refl) _ n7).2.2.2.1.trans m7) ?_
          exact kk v' y fu wvk w3 (hL _) hx2 yk.refl hft
theorem l_nam {j : Nat} {Q : Int32 → sd_H → Nat × Nat → Prop} (E : mOk n ρ ad) (htN : t ≤ N) (h400 : N ≤ 400) (hj : j < t) : ∀ (r k : Nat) (ks : List Nat) (S : SS) (v : Nat → Int32) (fu : Nat), k + r = j + 1 → TD κ pl nb nw N e S.2.2 y → SL t S v y → t - k < fu → ks.Pairwise (· < ·) → (∀ k', k' ∈ ks → k ≤ k' ∧ k' < j ∧ κ k' = 30) → (∀ k', k ≤ k' → k' ≤ j → e k' = if k' ∈ ks then 12 else 0) → kL G pl t n ρ ad K v S.2.2 y b Q (j + 1) (lNam nw S ks) → wp (LPr G ad fu k) (hMo n ρ ad K v S.2.2 y) b Q := by
  intro r
  induction r with
  | zero =>
    intro k ks S v fu hk D L hf so hb he kk
    have kj : k = j + 1 := by omega
    subst kj
    cases ks with
    | nil => exact kk v y fu vk.refl rfl L xk.refl yk.refl hf
    | cons k' r =>
      have := hb k' (by simp)
      omega
  | succ r ih =>
    intro k ks S v fu hk D L hf so hb he kk
    obtain ⟨fu, rfl⟩ : ∃ q, fu = q + 1 := ⟨fu - 1, by omega⟩
    have hf1 : t - (k + 1) < fu := by omega
    have t4 : t ≤ 400 := by omega
    have kt : k < t := by omega
    have k4 : k ≤ 400 := by omega
    have kN : k ≤ N := by omega
    have kj : k ≤ j := by omega
    have hk1 : k + 1 + r = j + 1 := by omega
    have d0 := D k kN
    have L0 := L
    obtain ⟨s10, s20, s21, s22, s26, s32, sn, b20, b21, b22, b26, b32⟩ := L
    have hek := he k (Nat.le_refl _) kj
    by_cases c : k ∈ ks
    · cases ks with
      | nil => cases c
      | cons k0 r0 =>
        have e0 : k0 = k := by
          rw [List.mem_cons] at c
          rcases c with c | c
          · exact c.symm
          · have h1 := (List.pairwise_cons.mp so).1 k c
            have h2 := (hb k0 (by simp)).1
            omega
        subst e0
        rw [if_pos c] at hek
        have hb0 := hb k0 (by simp)
        obtain ⟨y6, y6'⟩ := d0.2.2.2.2.2 hb0.2.2
        refine lp_st E s10 t4 kt ?_
        rw [e_12 E k4 (d0.2.2.2.1.trans hek), f_anEmp (nf := 0) E k4 y6 s22 b22 sn y6' (d0.2.2.2.1.trans hek) (fun h => by cases h) (by decide)]
        have fe : fnN S.2.1 (nw k0) (S.1 22) 0 = fnd S (nw k0) := rfl
        rw [fe]
        simp only [lNam] at kk
        cases hfd : fnd S (nw k0) with
        | none =>
          rw [hfd] at kk
          have hx2 := xk_up (x := S.2.2) (i := 9) (a := k0) (z := -1) (by decide)
          exact lp_er E k4 (D.keep hx2 yk.refl _ kN).2.2.1 (by decide) (by decide) (kk _ _ _ (vk_upd (k := 3) (by decide)) (upd_same _ _ _) hx2 yk.refl)
        | some e0 =>
          rw [hfd] at kk
          replace kk : kL G pl t n ρ ad K v S.2.2 y b Q (j + 1) (lNam nw (S.1, S.2.1, up2 S.2.2 9 k0 (n3 e0)) r0) := kk
          show if (12 : Int32) = 10 then _ else _
          rw [if_neg (by decide), if_pos rfl]
          have hx2 : xk S.2.2 (up2 S.2.2 9 k0 (n3 e0)) := xk_up (i := 9) (by decide)
          refine ih (k0 + 1) r0 (S.1, S.2.1, up2 S.2.2 9 k0 (n3 e0)) v fu hk1 (D.keep hx2 yk.refl) L0 hf1 (List.pairwise_cons.mp so).2 (fun k' hk' => ?_) (fun k' h1 h2 => ?_) ?_
          · have h1 := (List.pairwise_cons.mp so).1 k' hk'
            have h2 := hb k' (by simp [hk'])
            exact ⟨h1, h2.2⟩
          · have h0 : k0 ≤ k' := Nat.le_trans (Nat.le_succ _) h1
            rw [he k' h0 h2]
            by_cases c3 : k' ∈ r0
            · rw [if_pos c3, if_pos (by simp [c3])]
            · rw [if_neg c3, if_neg]
              rw [List.mem_cons]
              rintro (h3 | h3)
              · omega
              · exact c3 h3
          · revert kk
            cases lNam nw (S.1, S.2.1, up2 S.2.2 9 k0 (n3 e0)) r0 with
            | inr er =>
              intro kk v' x' y' q1 q2 q3 q4
              exact kk v' x' y' q1 q2 (hx2.trans q3) q4
            | inl S' =>
              intro kk v' y' fu' q1 q2 q3 q4 q5 q6
              exact kk v' y' fu' q1 q2 q3 (hx2.trans q4) q5 q6
    · rw [if_neg c] at hek
      refine lp_0 E s10 t4 kt (d0.2.2.2.1.trans hek) ?_
      refine ih (k + 1) ks S v fu hk1 D L0 hf1 so (fun k' hk' => ?_) (fun k' h1 h2 => he k' (Nat.le_trans (Nat.le_succ _) h1) h2) kk
      have := hb k' hk'
      refine ⟨?_, this.2⟩
      have : k' ≠ k := fun h => c (h ▸ hk')
      omega
theorem l_ord {l : Ln} {Q : Int32 → sd_H → Nat × Nat → Prop} (E : mOk n ρ ad) (D : TD κ pl nb nw N e S.2.2 y) (L : SL t S v y) (htN : t ≤ N) (h400 : N ≤ 400) (hl : l.1 < l.2.1) (hj : l.2.1 < t) (hf : t - l.1 < fu) (so : l.2.2.2.2.Pairwise (· < ·)) (hb : ∀ k, k ∈ l.2.2.2.2 → l.1 < k ∧ k < l.2.1 ∧ κ k = 30) (m0 : e l.1 = 11) (mk : ∀ k, l.1 < k → k ≤ l.2.1 → e k = if k ∈ l.2.2.2.2 then 12 else 0) (kk : kL G pl t n ρ ad K v S.2.2 y b Q (l.2.1 + 1) (lOrd nw S l)) : wp (LPr G ad fu l.1) (hMo n ρ ad K v S.2.2 y) b Q := by
  obtain ⟨fu, rfl⟩ : ∃ q, fu = q + 1 := ⟨fu - 1, by omega⟩
  have hf1 : t - (l.1 + 1) < fu := by omega
  have t4 : t ≤ 400 := by omega
  have kt : l.1 < t := by omega
  have k4 : l.1 ≤ 400 := by omega
  have kN : l.1 ≤ N := by omega
  have hr : l.1 + 1 + (l.2.1 - l.1) = l.2.1 + 1 := by omega
  have d0 := D l.1 kN
  have L0 := L
  obtain ⟨s10, s20, s21, s22, s26, s32, sn, b20, b21, b22, b26, b32⟩ := L
  refine lp_st E s10 t4 kt ?_
  rw [e_11 E k4 (d0.2.2.2.1.trans m0), f_order E s32 b32]
  unfold lOrd at kk
  by_cases c1 : S.1 32 = 16
  · rw [if_pos c1] at kk ⊢
    exact lp_er E k4 d0.2.2.1 (by decide) (by decide) (kk _ _ _ (vk_upd (k := 3) (by decide)) (upd_same _ _ _) xk.refl yk.refl)
  · rw [if_neg c1] at kk ⊢
    rw [if_pos rfl]
    have u20 : updN S.1 32 (S.1 32 + 1) 20 = S.1 20 := updN_ne (by decide)
    have u21 : updN S.1 32 (S.1 32 + 1) 21 = S.1 21 := updN_ne (by decide)
    have u22 : updN S.1 32 (S.1 32 + 1) 22 = S.1 22 := updN_ne (by decide)
    have u26 : updN S.1 32 (S.1 32 + 1) 26 = S.1 26 := updN_ne (by decide)
    have u32 : updN S.1 32 (S.1 32 + 1) 32 = S.1 32 + 1 := updN_same _ _ _
    have b33 : S.1 32 + 1 ≤ 16 := by omega
    have vq : vk v (upd v 32 (n3 (S.1 32 + 1))) := vk_upd (k := 32) (by decide)
    have hL : SL t (updN S.1 32 (S.1 32 + 1), S.2) (upd v 32 (n3 (S.1 32 + 1))) y := by
      unfold SL
      simp only [u20, u21, u22, u26, u32]
      exact ⟨(upd_ne (by decide)).trans s10, (upd_ne (by decide)).trans s20, (upd_ne (by decide)).trans s21, (upd_ne (by decide)).trans s22, (upd_ne (by decide)).trans s26, upd_same _ _ _, sn, b20, b21, b22, b26, b33⟩
    refine l_nam E htN h400 hj (l.2.1 - l.1) (l.1 + 1) l.2.2.2.2 (updN S.1 32 (S.1 32 + 1), S.2) (upd v 32 (n3 (S.1 32 + 1))) fu hr D hL hf1 so (fun k' hk' => ⟨(hb k' hk').1, (hb k' hk').2⟩) (fun k' h1 h2 => mk k' h1 h2) ?_
    revert kk
    cases lNam nw (updN S.1 32 (S.1 32 + 1), S.2) l.2.2.2.2 with
    | inr er =>
      intro kk v' x' y' q1 q2 q3 q4
      exact kk v' x' y' (vq.trans q1) q2 q3 q4
    | inl S' =>
      intro kk v' y' fu' q1 q2 q3 q4 q5 q6
      exact kk v' y' fu' (vq.trans q1) (q2.trans (upd_ne (by decide))) q3 q4 q5 q6
end ML5
