/-! THE PLAIN LAW: the component's tokens read: a word is a kind -/
/-- the kind of a word -/
def wcd (l : List Nat) (c : Nat) : Prop := (c < 29 ∧ kws[c]? = some l) ∨ (sym c = true ∧ l = [c])
theorem kwF_at {t : List Nat} : ∀ (L : List (List Nat)) (k c : Nat), k + L.length ≤ 29 → kwF t L k = c → c < 29 → k ≤ c ∧ L[c - k]? = some t := by
  intro L
  induction L with
  | nil =>
    intro k c _ h hc
    have h : 30 = c := h
    omega
  | cons w r ih =>
    intro k c hk h hc
    rw [List.length_cons] at hk
    simp only [kwF] at h
    by_cases e : w = t
    · rw [if_pos e] at h
      subst h
      rw [Nat.sub_self, e]
      exact ⟨Nat.le_refl _, rfl⟩
    · rw [if_neg e] at h
      obtain ⟨h1, h2⟩ := ih (k + 1) c (by omega) h hc
      refine ⟨by omega, ?_⟩
      rw [show c - k = (c - (k + 1)) + 1 by omega]
      exact h2
theorem kwI_at {t : List Nat} {c : Nat} (h : kwI t = c) (hc : c < 29) : kws[c]? = some t := (kwF_at kws 0 c (by decide) h hc).2
theorem kwI_of : ∀ c l, kws[c]? = some l → kwI l = c := by
  have key : ∀ c : Fin 29, kwI (kws.getD c.val []) = c.val := by decide
  intro c l h
  have hc : c < 29 := by
    rcases Nat.lt_or_ge c 29 with q | q
    · exact q
    · rw [List.getElem?_eq_none (by show 29 ≤ c; exact q)] at h
      cases h
  have := key ⟨c, hc⟩
  rw [List.getD_eq_getElem?_getD, h] at this
  exact this
theorem kws_hd : ∀ w, w ∈ kws → ∃ c, w[0]? = some c ∧ isL c = true := by
  have key : ∀ w, w ∈ kws → isL (w.getD 0 0) = true ∧ w.length ≠ 0 := by decide
  intro w hw
  obtain ⟨h1, h2⟩ := key w hw
  obtain ⟨c, hc⟩ : ∃ c, w[0]? = some c := ⟨_, List.getElem?_eq_getElem (by omega)⟩
  rw [List.getD_eq_getElem?_getD, hc] at h1
  exact ⟨c, hc, h1⟩
theorem sym_not {c : Nat} (h : sym c = true) : isL c = false ∧ isD c = false ∧ 40 ≤ c ∧ c ≤ 93 := by
  unfold sym at h
  simp only [Bool.or_eq_true, decide_eq_true_eq] at h
  unfold isL isD
  simp only [Bool.and_eq_false_iff, decide_eq_false_iff_not]
  omega
section TIS
variable {u : Nat → Nat} {sz i : Nat}
/-- a token's kind and text -/
theorem tk_cases (h : i < nT u sz) : (kdT u sz i = 31 ∧ ∀ c, c ∈ txT u sz i → isD c = true) ∨ (kdT u sz i = kwI (txT u sz i) ∧ isL (u (plT u sz i)) = true ∧ (txT u sz i)[0]? = some (u (plT u sz i)) ∧ okN (txT u sz i) ∧ (txT u sz i).length ≤ 10) ∨ (∃ c, sym c = true ∧ kdT u sz i = c ∧ txT u sz i = [c]) ∨ (∃ c, (c = 60 ∨ c = 62) ∧ kdT u sz i = 256 + c ∧ txT u sz i = [c, 61]) := by
  obtain ⟨h1, h2, h3, h4, h5⟩ := tk_lt h
  have g1 : plT u sz i < enP u sz (plT u sz i) := enP_gt
  have t0 : (txT u sz i)[0]? = some (u (plT u sz i)) := txP_at (by omega)
  have tl : (txT u sz i).length = enP u sz (plT u sz i) - plT u sz i := txP_len
  by_cases cD : isD (u (plT u sz i)) = true
  · refine Or.inl ⟨?_, dig_tx cD⟩
    rw [h3]
    unfold knP at h4 ⊢
    rw [if_pos cD] at h4 ⊢
    by_cases c : enP u sz (plT u sz i) - plT u sz i ≤ 6
    · rw [if_pos c]
    · rw [if_neg c] at h4
      exact absurd rfl h4
  · by_cases cL : isL (u (plT u sz i)) = true
    · refine Or.inr (Or.inl ?_)
      rw [h3]
      unfold knP at h4 ⊢
      rw [if_neg cD, if_pos cL] at h4 ⊢
      by_cases c : enP u sz (plT u sz i) - plT u sz i ≤ 10
      · rw [if_pos c]
        exact ⟨rfl, cL, t0, okN_tx cL, by rw [tl]; exact c⟩
      · rw [if_neg c] at h4
        exact absurd rfl h4
    · have en : enP u sz (plT u sz i) = if (u (plT u sz i) = 60 ∨ u (plT u sz i) = 62) ∧ plT u sz i + 1 < sz ∧ u (plT u sz i + 1) = 61 then plT u sz i + 2 else plT u sz i + 1 := by
        unfold enP
        rw [if_neg cL, if_neg cD]
      have kn : knP u sz (plT u sz i) = if enP u sz (plT u sz i) - plT u sz i = 2 then 256 + u (plT u sz i) else if sym (u (plT u sz i)) = true then u (plT u sz i) else 32 := by
        unfold knP
        rw [if_neg cD, if_neg cL]
      by_cases c6 : (u (plT u sz i) = 60 ∨ u (plT u sz i) = 62) ∧ plT u sz i + 1 < sz ∧ u (plT u sz i + 1) = 61
      · rw [if_pos c6] at en
        rw [if_pos (by omega)] at kn
        refine Or.inr (Or.inr (Or.inr ⟨u (plT u sz i), c6.1, h3.trans kn, ?_⟩))
        unfold txT txP
        rw [en, Nat.add_sub_cancel_left]
        show [u (plT u sz i + 0), u (plT u sz i + 1)] = _
        rw [c6.2.2]
        rfl
      · rw [if_neg c6] at en
        rw [if_neg (by omega)] at kn
        by_cases cs : sym (u (plT u sz i)) = true
        · rw [if_pos cs] at kn
          refine Or.inr (Or.inr (Or.inl ⟨u (plT u sz i), cs, h3.trans kn, ?_⟩))
          unfold txT txP
          rw [en, Nat.add_sub_cancel_left]
          rfl
        · rw [if_neg cs] at kn
          exact absurd kn h4
theorem tk_is {l : List Nat} {c : Nat} (hw : wcd l c) (h : i ≤ nT u sz) : ((kdT u sz i < 29 ∨ kdT u sz i = 29 ∨ 33 < kdT u sz i) ∧ txT u sz i = l) ↔ kdT u sz i = c := by
  have hc : c < 29 ∨ (40 ≤ c ∧ c ≤ 93) := by
    rcases hw with ⟨h1, -⟩ | ⟨h1, -⟩
    · exact Or.inl h1
    · exact Or.inr ⟨(sym_not h1).2.2.1, (sym_not h1).2.2.2⟩
  by_cases iN : i = nT u sz
  · have := nT_stop (u := u) (sz := sz)
    unfold spT at this
    simp only [Bool.or_eq_true, decide_eq_true_eq] at this
    rw [← iN] at this
    constructor
    · rintro ⟨q, -⟩
      omega
    · intro q
      omega
  · rcases tk_cases (show i < nT u sz by omega) with ⟨k1, k2⟩ | ⟨k1, k2, k3, k4, k5⟩ | ⟨c', k1, k2, k3⟩ | ⟨c', k1, k2, k3⟩
    · constructor
      · rintro ⟨q, -⟩
        omega
      · intro q
        omega
    · have kl := kwI_lt (txT u sz i)
      constructor
      · rintro ⟨q, rfl⟩
        rcases hw with ⟨h1, h2⟩ | ⟨h1, h2⟩
        · rw [k1]
          exact kwI_of _ _ h2
        · rw [h2] at k3
          injection k3 with k3
          rw [← k3, (sym_not h1).1] at k2
          cases k2
      · intro q
        rcases hw with ⟨h1, h2⟩ | ⟨h1, h2⟩
        · refine ⟨Or.inl (by omega), ?_⟩
          have := kwI_at (k1.symm.trans q) h1
          rw [h2] at this
          injection this with this
          exact this.symm
        · have := sym_not h1
          omega
    · have s := sym_not k1
      constructor
      · rintro ⟨q, e⟩
        rcases hw with ⟨h1, h2⟩ | ⟨h1, h2⟩
        · obtain ⟨d, d1, d2⟩ := kws_hd l (List.mem_of_getElem? h2)
          rw [← e, k3] at d1
          cases d1
          rw [s.1] at d2
          cases d2
        · rw [k3, h2] at e
          injection e with e
          rw [k2]
          exact e
      · intro q
        rcases hw with ⟨h1, h2⟩ | ⟨h1, h2⟩
        · omega
        · refine ⟨Or.inr (Or.inr (by omega)), ?_⟩
          rw [k3, h2, ← k2, q]
    · constructor
      · rintro ⟨q, e⟩
        rcases hw with ⟨h1, h2⟩ | ⟨h1, h2⟩
        · obtain ⟨d, d1, d2⟩ := kws_hd l (List.mem_of_getElem? h2)
          rw [← e, k3] at d1
          cases d1
          rcases k1 with k1 | k1 <;> (rw [k1] at d2; cases d2)
        · rw [k3, h2] at e
          cases e
      · intro q
        omega
end TIS
