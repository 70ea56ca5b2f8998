/-! THE PLAIN LAW: two tables that agree -/
/-- the same counts, names and rows 20 to 32 -/
def sR (S S' : SS) : Prop := S'.1 = S.1 ∧ S'.2.1 = S.2.1 ∧ ∀ j, 20 ≤ j → j ≤ 32 → S'.2.2 j = S.2.2 j
section SRR
variable {κ nb nw : Nat → Nat}
theorem up2_r {x x' : Nat → Nat → Int32} {a k j : Nat} {z : Int32} (h : x' j = x j) : up2 x' a k z j = up2 x a k z j := by
  unfold up2
  by_cases c : j = a
  · subst c
    rw [if_pos rfl, if_pos rfl, h]
  · rw [if_neg c, if_neg c]
    exact h
theorem up2_9 {x : Nat → Nat → Int32} {k j : Nat} {z : Int32} (h : 20 ≤ j) : up2 x 9 k z j = x j := if_neg (by omega)
theorem lNam_r : ∀ (ks : List Nat) (S S' : SS), sR S S' → (∀ e, lNam nw S ks = .inr e → lNam nw S' ks = .inr e) ∧ ∀ S1, lNam nw S ks = .inl S1 → ∃ S2, lNam nw S' ks = .inl S2 ∧ sR S1 S2 := by
  intro ks
  induction ks with
  | nil =>
    intro S S' h
    refine ⟨(fun e q => by cases q), fun S1 q => ?_⟩
    cases q
    exact ⟨S', rfl, h⟩
  | cons a r ih =>
    intro S S' h
    have e : fnd S' (nw a) = fnd S (nw a) := by
      unfold fnd
      rw [h.1, h.2.1]
    simp only [lNam]
    rw [e]
    cases hf : fnd S (nw a) with
    | none =>
      refine ⟨fun e q => q, (fun S1 q => by cases q)⟩
    | some z =>
      exact ih _ _ ⟨h.1, h.2.1, fun j j1 j2 => up2_r (h.2.2 j j1 j2)⟩
theorem lLin_r {S S' : SS} {l : Ln} (h : sR S S') : (∀ e, lLin κ nb nw S l = .inr e → lLin κ nb nw S' l = .inr e) ∧ ∀ S1, lLin κ nb nw S l = .inl S1 → ∃ S2, lLin κ nb nw S' l = .inl S2 ∧ sR S1 S2 := by
  obtain ⟨q, nm, x⟩ := S
  obtain ⟨q', nm', x'⟩ := S'
  obtain ⟨h1, h2, h3⟩ := h
  have h1 : q' = q := h1
  have h2 : nm' = nm := h2
  have h3 : ∀ j, 20 ≤ j → j ≤ 32 → x' j = x j := h3
  subst h1 h2
  have ef : ∀ z, fnd (q', nm', x') z = fnd (q', nm', x) z := fun z => rfl
  have ep : ∀ i f, lPla nb (q', nm', x') i f = lPla nb (q', nm', x) i f := by
    intro i f
    unfold lPla
    rw [h3 30 (by omega) (by omega), h3 31 (by omega) (by omega)]
  have fin : ∀ co, (∀ e, lFin nb nw (q', nm', x) l.1 co = .inr e → lFin nb nw (q', nm', x') l.1 co = .inr e) ∧ ∀ S1, lFin nb nw (q', nm', x) l.1 co = .inl S1 → ∃ S2, lFin nb nw (q', nm', x') l.1 co = .inl S2 ∧ sR S1 S2 := by
    intro co
    unfold lFin
    rw [ep]
    by_cases c0 : q' 26 = 24
    · rw [if_pos c0, if_pos c0]
      exact ⟨fun e q => q, (fun S1 q => by cases q)⟩
    · rw [if_neg c0, if_neg c0]
      cases hp : lPla nb (q', nm', x) l.1 true with
      | inr e => exact ⟨fun e q => q, (fun S1 q => by cases q)⟩
      | inl c =>
        cases co with
        | true =>
          by_cases c9 : 999 < nb (l.1 + 6)
          · refine ⟨fun e q => ?_, fun S1 q => ?_⟩
            · have q : (if true = true then (if 999 < nb (l.1 + 6) then Sum.inr (5, l.1 + 6) else _) else _) = Sum.inr e := q
              rw [if_pos rfl, if_pos c9] at q
              show (if true = true then (if 999 < nb (l.1 + 6) then Sum.inr (5, l.1 + 6) else _) else _) = Sum.inr e
              rw [if_pos rfl, if_pos c9]
              exact q
            · have q : (if true = true then (if 999 < nb (l.1 + 6) then Sum.inr (5, l.1 + 6) else _) else _) = Sum.inl S1 := q
              rw [if_pos rfl, if_pos c9] at q
              cases q
          · refine ⟨fun e q => ?_, fun S1 q => ?_⟩
            · have q : (if true = true then (if 999 < nb (l.1 + 6) then Sum.inr (5, l.1 + 6) else Sum.inl (updN q' 26 (q' 26 + 1), nm', up2 (up2 (up2 (up2 x 27 (q' 26) 1) 30 c (n3 (q' 26))) 28 (q' 26) (n3 c)) 29 (q' 26) (n3 (nb (l.1 + 6))))) else _) = Sum.inr e := q
              rw [if_pos rfl, if_neg c9] at q
              cases q
            · have q : (if true = true then (if 999 < nb (l.1 + 6) then Sum.inr (5, l.1 + 6) else Sum.inl (updN q' 26 (q' 26 + 1), nm', up2 (up2 (up2 (up2 x 27 (q' 26) 1) 30 c (n3 (q' 26))) 28 (q' 26) (n3 c)) 29 (q' 26) (n3 (nb (l.1 + 6))))) else _) = Sum.inl S1 := q
              rw [if_pos rfl, if_neg c9] at q
              cases q
              refine ⟨(updN q' 26 (q' 26 + 1), nm', up2 (up2 (up2 (up2 x' 27 (q' 26) 1) 30 c (n3 (q' 26))) 28 (q' 26) (n3 c)) 29 (q' 26) (n3 (nb (l.1 + 6)))), ?_, rfl, rfl, fun j j1 j2 => up2_r (up2_r (up2_r (up2_r (h3 j j1 j2))))⟩
              show (if true = true then (if 999 < nb (l.1 + 6) then Sum.inr (5, l.1 + 6) else _) else _) = _
              rw [if_pos rfl, if_neg c9]
        | false =>
          cases hf : fnd (q', nm', x) (nw (l.1 + 6)) with
          | none =>
            have hf2 : fnd (q', nm', x') (nw (l.1 + 6)) = none := hf
            simp only [hf2]
            exact ⟨fun e q => q, (fun S1 q => by cases q)⟩
          | some z =>
            have hf2 : fnd (q', nm', x') (nw (l.1 + 6)) = some z := hf
            simp only [hf2]
            refine ⟨(fun e q => by cases q), fun S1 q => ?_⟩
            cases q
            exact ⟨_, rfl, rfl, rfl, fun j j1 j2 => up2_r (up2_r (up2_r (up2_r (up2_r (h3 j j1 j2)))))⟩
  unfold lLin
  by_cases c2 : κ l.1 = 2
  · rw [if_pos c2, if_pos c2]
    unfold lEmp
    rw [ef]
    by_cases d1 : (fnd (q', nm', x) (nw (l.1 + 1))).isSome = true
    · rw [if_pos d1, if_pos d1]
      exact ⟨fun e q => q, (fun S1 q => by cases q)⟩
    · rw [if_neg d1, if_neg d1]
      by_cases d2 : q' 22 = 6
      · rw [if_pos d2, if_pos d2]
        exact ⟨fun e q => q, (fun S1 q => by cases q)⟩
      · rw [if_neg d2, if_neg d2]
        by_cases d3 : 999 < nb (l.1 + 3)
        · rw [if_pos d3, if_pos d3]
          exact ⟨fun e q => q, (fun S1 q => by cases q)⟩
        · rw [if_neg d3, if_neg d3]
          by_cases d4 : 999 < nb (l.1 + 5) ∨ nb (l.1 + 5) < nb (l.1 + 3)
          · rw [if_pos d4, if_pos d4]
            exact ⟨fun e q => q, (fun S1 q => by cases q)⟩
          · rw [if_neg d4, if_neg d4]
            refine ⟨(fun e q => by cases q), fun S1 q => ?_⟩
            cases q
            exact ⟨_, rfl, rfl, rfl, fun j j1 j2 => up2_r (up2_r (h3 j j1 j2))⟩
  · rw [if_neg c2, if_neg c2]
    by_cases c7 : κ l.1 = 7
    · rw [if_pos c7, if_pos c7]
      unfold lSpr
      rw [ep]
      cases hp : lPla nb (q', nm', x) l.1 false with
      | inr e => exact ⟨fun e q => q, (fun S1 q => by cases q)⟩
      | inl c =>
        refine ⟨(fun e q => by cases q), fun S1 q => ?_⟩
        cases q
        exact ⟨_, rfl, rfl, rfl, fun j j1 j2 => up2_r (h3 j j1 j2)⟩
    · rw [if_neg c7, if_neg c7]
      by_cases c5 : κ l.1 = 5
      · rw [if_pos c5, if_pos c5]
        exact fin true
      · rw [if_neg c5, if_neg c5]
        by_cases c6 : κ l.1 = 6
        · rw [if_pos c6, if_pos c6]
          exact fin false
        · rw [if_neg c6, if_neg c6]
          unfold lOrd
          by_cases d : q' 32 = 16
          · rw [if_pos d, if_pos d]
            exact ⟨fun e q => q, (fun S1 q => by cases q)⟩
          · rw [if_neg d, if_neg d]
            exact lNam_r _ _ _ ⟨rfl, rfl, h3⟩
theorem lAll_r : ∀ (L : List Ln) (S S' : SS), sR S S' → (∀ e, lAll κ nb nw S L = .inr e → lAll κ nb nw S' L = .inr e) ∧ ∀ S1, lAll κ nb nw S L = .inl S1 → ∃ S2, lAll κ nb nw S' L = .inl S2 ∧ sR S1 S2 := by
  intro L
  induction L with
  | nil =>
    intro S S' h
    refine ⟨(fun e q => by cases q), fun S1 q => ?_⟩
    cases q
    exact ⟨S', rfl, h⟩
  | cons l r ih =>
    intro S S' h
    obtain ⟨a1, a2⟩ := lLin_r (κ := κ) (nb := nb) (nw := nw) (l := l) h
    simp only [lAll]
    cases hl : lLin κ nb nw S l with
    | inr e =>
      rw [a1 e hl]
      exact ⟨fun e q => q, (fun S1 q => by cases q)⟩
    | inl S1 =>
      obtain ⟨S2, b1, b2⟩ := a2 S1 hl
      rw [b1]
      exact ih S1 S2 b2
theorem lBook_r {L : List Ln} {S S' : SS} (h : sR S S') : (∀ e, lBook κ nb nw S L = .inr e → lBook κ nb nw S' L = .inr e) ∧ ∀ S1, lBook κ nb nw S L = .inl S1 → ∃ S2, lBook κ nb nw S' L = .inl S2 ∧ sR S1 S2 := by
  unfold lBook lHd
  by_cases c0 : κ 0 = 0
  · rw [if_pos c0, if_pos c0]
    by_cases c1 : nb 1 < 2 ∨ 8 < nb 1
    · rw [if_pos c1, if_pos c1]
      exact ⟨fun e q => q, (fun S1 q => by cases q)⟩
    · rw [if_neg c1, if_neg c1]
      by_cases c3 : nb 3 < 2 ∨ 10 < nb 3
      · rw [if_pos c3, if_pos c3]
        exact ⟨fun e q => q, (fun S1 q => by cases q)⟩
      · rw [if_neg c3, if_neg c3]
        exact lAll_r L _ _ ⟨by show updN (updN S'.1 20 (nb 1)) 21 (nb 3) = updN (updN S.1 20 (nb 1)) 21 (nb 3); rw [h.1], h.2.1, h.2.2⟩
  · rw [if_neg c0, if_neg c0]
    exact lAll_r L _ _ h
end SRR
