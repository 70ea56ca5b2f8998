/-! THE PLAIN LAW: what the second look makes, pure -/
theorem fnN_ext {z z0 : Nat} : ∀ (r k : Nat) (nm : Nat → Nat) (e : Nat), fnN nm z r k = some e → fnN (updN nm (k + r) z0) z (r + 1) k = some e := by
  intro r
  induction r with
  | zero => intro k nm e h; cases h
  | succ r ih =>
    intro k nm e h
    have ne : updN nm (k + (r + 1)) z0 k = nm k := updN_ne (by omega)
    simp only [fnN] at h
    by_cases c : nm k = z
    · rw [if_pos c] at h
      show (if updN nm (k + (r + 1)) z0 k = z then some k else _) = some e
      rw [ne, if_pos c]
      exact h
    · rw [if_neg c] at h
      show (if updN nm (k + (r + 1)) z0 k = z then some k else fnN (updN nm (k + (r + 1)) z0) z (r + 1) (k + 1)) = some e
      rw [ne, if_neg c, show k + (r + 1) = k + 1 + r by omega]
      exact ih (k + 1) nm e h
/-- names that are resolved: the table 9 -/
def R9 (nw : Nat → Nat) (S : SS) (T : Nat → Prop) : Prop := ∀ t, T t → ∃ e, fnd S (nw t) = some e ∧ S.2.2 9 t = n3 e
section PUR
variable {κ nb nw : Nat → Nat}
theorem R9_up {S : SS} {T : Nat → Prop} {x' : Nat → Nat → Int32} {k e : Nat} (h : R9 nw S T) (he : fnd S (nw k) = some e) (hx : x' 9 = upd (S.2.2 9) k (n3 e)) : R9 nw (S.1, S.2.1, x') (fun t => T t ∨ t = k) := by
  intro t ht
  show ∃ e', fnd S (nw t) = some e' ∧ x' 9 t = n3 e'
  rw [hx]
  by_cases c : t = k
  · subst c
    exact ⟨e, he, upd_same _ _ _⟩
  · rcases ht with ht | ht
    · obtain ⟨e', h1, h2⟩ := h t ht
      exact ⟨e', h1, by rw [upd_ne c]; exact h2⟩
    · exact absurd ht c
theorem lNam_9 : ∀ (ks : List Nat) (S S' : SS) (T : Nat → Prop), lNam nw S ks = .inl S' → R9 nw S T → R9 nw S' (fun t => T t ∨ t ∈ ks) ∧ S'.1 = S.1 ∧ S'.2.1 = S.2.1 ∧ ∀ j, j ≠ 9 → S'.2.2 j = S.2.2 j := by
  intro ks
  induction ks with
  | nil =>
    intro S S' T h hR
    cases h
    refine ⟨fun t ht => hR t ?_, rfl, rfl, fun _ _ => rfl⟩
    rcases ht with ht | ht
    · exact ht
    · cases ht
  | cons a r ih =>
    intro S S' T h hR
    simp only [lNam] at h
    split at h
    · cases h
    · next e he =>
      obtain ⟨i1, i2, i3, i4⟩ := ih _ S' (fun t => T t ∨ t = a) h (R9_up hR he rfl)
      refine ⟨fun t ht => i1 t ?_, i2, i3, fun j hj => ?_⟩
      · rcases ht with ht | ht
        · exact Or.inl (Or.inl ht)
        · rw [List.mem_cons] at ht
          rcases ht with ht | ht
          · exact Or.inl (Or.inr ht)
          · exact Or.inr ht
      · rw [i4 j hj]
        exact if_neg hj
theorem lLin_9 {S S' : SS} {l : Ln} {T : Nat → Prop} (h : lLin κ nb nw S l = .inl S') (hR : R9 nw S T) : R9 nw S' (fun t => T t ∨ (isO (κ l.1) = true ∧ t ∈ l.2.2.2.2)) := by
  have no : ∀ c, κ l.1 = c → c ≠ 11 → c ≠ 12 → c ≠ 13 → isO (κ l.1) = false := by
    intro c q1 q2 q3 q4
    rw [q1]
    unfold isO
    rw [decide_eq_false q2, decide_eq_false q3, decide_eq_false q4]
    rfl
  have wk : isO (κ l.1) = false → R9 nw S' T → R9 nw S' (fun t => T t ∨ (isO (κ l.1) = true ∧ t ∈ l.2.2.2.2)) := by
    intro q h t ht
    rcases ht with ht | ⟨ht, -⟩
    · exact h t ht
    · rw [q] at ht
      cases ht
  unfold lLin at h
  by_cases c2 : κ l.1 = 2
  · rw [if_pos c2] at h
    refine wk (no 2 c2 (by decide) (by decide) (by decide)) ?_
    unfold lEmp at h
    split at h
    · cases h
    · split at h
      · cases h
      · split at h
        · cases h
        · split at h
          · cases h
          · cases h
            intro t ht
            obtain ⟨e, h1, h2⟩ := hR t ht
            refine ⟨e, ?_, h2⟩
            unfold fnd at h1 ⊢
            have := fnN_ext (z0 := nw (l.1 + 1)) _ _ _ _ h1
            rw [Nat.zero_add] at this
            exact this
  · rw [if_neg c2] at h
    by_cases c7 : κ l.1 = 7
    · rw [if_pos c7] at h
      refine wk (no 7 c7 (by decide) (by decide) (by decide)) ?_
      unfold lSpr at h
      split at h
      · cases h
      · cases h
        exact hR
    · rw [if_neg c7] at h
      have fin : ∀ co, lFin nb nw S l.1 co = .inl S' → R9 nw S' T := by
        intro co h
        unfold lFin at h
        split at h
        · cases h
        · split at h
          · cases h
          · split at h
            · split at h
              · cases h
              · cases h
                exact hR
            · split at h
              · cases h
              · next e he =>
                cases h
                have := R9_up (x' := up2 S.2.2 9 (l.1 + 6) (n3 e)) hR he rfl
                intro t ht
                exact this t (Or.inl ht)
      by_cases c5 : κ l.1 = 5
      · rw [if_pos c5] at h
        exact wk (no 5 c5 (by decide) (by decide) (by decide)) (fin _ h)
      · rw [if_neg c5] at h
        by_cases c6 : κ l.1 = 6
        · rw [if_pos c6] at h
          exact wk (no 6 c6 (by decide) (by decide) (by decide)) (fin _ h)
        · rw [if_neg c6] at h
          unfold lOrd at h
          split at h
          · cases h
          · have hR' : R9 nw (updN S.1 32 (S.1 32 + 1), S.2) T := hR
            have := (lNam_9 _ _ _ T h hR').1
            intro t ht
            refine this t ?_
            rcases ht with ht | ht
            · exact Or.inl ht
            · exact Or.inr ht.2
theorem lAll_9 : ∀ (L : List Ln) (S S' : SS) (T : Nat → Prop), lAll κ nb nw S L = .inl S' → R9 nw S T → R9 nw S' (fun t => T t ∨ ∃ l, l ∈ flO κ L ∧ t ∈ l.2.2.2.2) := by
  intro L
  induction L with
  | nil =>
    intro S S' T h hR
    cases h
    intro t ht
    rcases ht with ht | ⟨l, hl, -⟩
    · exact hR t ht
    · cases hl
  | cons l r ih =>
    intro S S' T h hR
    simp only [lAll] at h
    split at h
    · cases h
    · next S1 h1 =>
      have := ih S1 S' _ h (lLin_9 h1 hR)
      intro t ht
      refine this t ?_
      rcases ht with ht | ⟨l', hl', ht⟩
      · exact Or.inl (Or.inl ht)
      · unfold flO at hl'
        rw [List.filter_cons] at hl'
        by_cases c : isO (κ l.1) = true
        · rw [if_pos c, List.mem_cons] at hl'
          rcases hl' with rfl | hl'
          · exact Or.inl (Or.inr ⟨c, ht⟩)
          · exact Or.inr ⟨l', hl', ht⟩
        · rw [if_neg c] at hl'
          exact Or.inr ⟨l', hl', ht⟩
/-! tables well made -/
theorem okP_rows {q : Nat → Nat} {x x' : Nat → Nat → Int32} (h : okP q x) (hx : ∀ j, 27 ≤ j → j ≤ 31 → x' j = x j) : okP q x' := by
  obtain ⟨h1, h2, h3, h4, h5, h6, h7⟩ := h
  refine ⟨h1, h2, h3, h4, h5, fun f hf => ?_, fun c hc => ?_⟩
  · rw [hx 27 (by omega) (by omega), hx 28 (by omega) (by omega), hx 29 (by omega) (by omega), hx 30 (by omega) (by omega)]
    exact h6 f hf
  · rw [hx 28 (by omega) (by omega), hx 30 (by omega) (by omega), hx 31 (by omega) (by omega)]
    exact h7 c hc
theorem lPla_in {S : SS} {i c : Nat} {isF : Bool} (h : lPla nb S i isF = .inl c) : nb (i + 2) < S.1 20 ∧ nb (i + 4) < S.1 21 ∧ c = 10 * nb (i + 2) + nb (i + 4) ∧ (isF = true → S.2.2 30 c = -1) := by
  unfold lPla at h
  by_cases c1 : S.1 20 ≤ nb (i + 2)
  · rw [if_pos c1] at h
    cases h
  · rw [if_neg c1] at h
    by_cases c2 : S.1 21 ≤ nb (i + 4)
    · rw [if_pos c2] at h
      cases h
    · rw [if_neg c2] at h
      by_cases c3 : (if isF = true then S.2.2 30 (10 * nb (i + 2) + nb (i + 4)) ≠ -1 else S.2.2 31 (10 * nb (i + 2) + nb (i + 4)) ≠ 0)
      · rw [if_pos c3] at h
        cases h
      · rw [if_neg c3] at h
        cases h
        refine ⟨by omega, by omega, rfl, fun q => ?_⟩
        rw [if_pos q] at c3
        exact Decidable.byContradiction c3
theorem okP_fin {q : Nat → Nat} {x x' : Nat → Nat → Int32} {c : Nat} {co : Bool} {told : Int32} (h : okP q x) (hf : q 26 < 24) (hc : c < 80) (h30 : x 30 c = -1) (ht : co = false → ∃ e, e < q 22 ∧ told = n3 e) (r27 : x' 27 = upd (x 27) (q 26) (bI co)) (r28 : x' 28 = upd (x 28) (q 26) (n3 c)) (r29 : x' 29 = upd (x 29) (q 26) told) (r30 : x' 30 = upd (x 30) c (n3 (q 26))) (r31 : x' 31 = x 31) : okP (updN q 26 (q 26 + 1)) x' := by
  obtain ⟨h1, h2, h3, h4, h5, h6, h7⟩ := h
  refine ⟨h1, h2, h3, by show q 26 + 1 ≤ 24; omega, h5, fun f hf' => ?_, fun c' hc' => ?_⟩
  · have hf' : f < q 26 + 1 := hf'
    rw [r27, r28, r29, r30]
    by_cases e : f = q 26
    · rw [e, upd_same, upd_same, upd_same]
      refine ⟨?_, c, hc, rfl, upd_same _ _ _⟩
      cases co with
      | true => exact Or.inl rfl
      | false => exact Or.inr ⟨rfl, ht rfl⟩
    · rw [upd_ne e, upd_ne e, upd_ne e]
      obtain ⟨g1, c', g2, g3, g4⟩ := h6 f (by omega)
      refine ⟨g1, c', g2, g3, ?_⟩
      have ne : c' ≠ c := by
        rintro rfl
        rw [h30] at g4
        have := n3_neg1 (a := f) (by omega)
        rw [← g4] at this
        exact this ▸ rfl
      rw [upd_ne ne]
      exact g4
  · rw [r28, r30, r31]
    refine ⟨?_, (h7 c' hc').2⟩
    by_cases e : c' = c
    · rw [e, upd_same]
      exact Or.inr ⟨q 26, by show q 26 < q 26 + 1; omega, rfl, upd_same _ _ _⟩
    · rw [upd_ne e]
      rcases (h7 c' hc').1 with g | ⟨f, g1, g2, g3⟩
      · exact Or.inl g
      · exact Or.inr ⟨f, by show f < q 26 + 1; omega, g2, by rw [upd_ne (by omega)]; exact g3⟩
theorem fnd_lt {S : SS} {z e : Nat} (h : fnd S z = some e) : e < S.1 22 := by
  have key : ∀ (r k : Nat), fnN S.2.1 z r k = some e → e < k + r := by
    intro r
    induction r with
    | zero => intro k h; cases h
    | succ r ih =>
      intro k h
      simp only [fnN] at h
      split at h
      · cases h
        omega
      · have := ih (k + 1) h
        omega
  have := key _ _ h
  omega
theorem lLin_ok {S S' : SS} {l : Ln} (h : lLin κ nb nw S l = .inl S') (hP : okP S.1 S.2.2) : okP S'.1 S'.2.2 := by
  have hP' := hP
  obtain ⟨h1, h2, h3, h4, h5, h6, h7⟩ := hP'
  unfold lLin at h
  split at h
  · unfold lEmp at h
    split at h
    · cases h
    · split at h
      · cases h
      · next n6 =>
        split at h
        · cases h
        · split at h
          · cases h
          · cases h
            refine ⟨h1, h2, by show S.1 22 + 1 ≤ 6; omega, h4, h5, fun f hf => ?_, h7⟩
            obtain ⟨g1, g2⟩ := h6 f hf
            refine ⟨?_, g2⟩
            rcases g1 with g1 | ⟨g1, e, g3, g4⟩
            · exact Or.inl g1
            · exact Or.inr ⟨g1, e, by show e < S.1 22 + 1; omega, g4⟩
  · split at h
    · unfold lSpr at h
      split at h
      · cases h
      · next c hc =>
        cases h
        refine ⟨h1, h2, h3, h4, h5, h6, fun c' hc' => ?_⟩
        show (S.2.2 30 c' = -1 ∨ _) ∧ (upd (S.2.2 31) c 1 c' = 0 ∨ upd (S.2.2 31) c 1 c' = 1)
        refine ⟨(h7 c' hc').1, ?_⟩
        by_cases e : c' = c
        · rw [e, upd_same]
          exact Or.inr rfl
        · rw [upd_ne e]
          exact (h7 c' hc').2
    · have fin : ∀ co, lFin nb nw S l.1 co = .inl S' → okP S'.1 S'.2.2 := by
        intro co h
        unfold lFin at h
        split at h
        · cases h
        · next n24 =>
          split at h
          · cases h
          · next c hc =>
            obtain ⟨p1, p2, p3, p4⟩ := lPla_in hc
            have p4 := p4 rfl
            have c80 : c < 80 := by omega
            split at h
            · next hco =>
              subst hco
              split at h
              · cases h
              · cases h
                exact okP_fin (co := true) hP (by omega) c80 p4 (fun q => by cases q) rfl rfl rfl rfl rfl
            · next hco =>
              have hco : co = false := by
                cases co
                · rfl
                · exact absurd rfl hco
              subst hco
              split at h
              · cases h
              · next e he =>
                cases h
                exact okP_fin (co := false) hP (by omega) c80 p4 (fun _ => ⟨e, fnd_lt he, rfl⟩) rfl rfl rfl rfl rfl
      split at h
      · exact fin _ h
      · split at h
        · exact fin _ h
        · unfold lOrd at h
          split at h
          · cases h
          · next n16 =>
            obtain ⟨-, i2, i3, i4⟩ := lNam_9 (nw := nw) _ _ _ (fun _ => False) h (fun t ht => ht.elim)
            rw [i2]
            have : okP (updN S.1 32 (S.1 32 + 1)) S.2.2 := ⟨h1, h2, h3, h4, by show S.1 32 + 1 ≤ 16; omega, h6, h7⟩
            exact okP_rows this (fun j _ _ => i4 j (by omega))
theorem lAll_ok : ∀ (L : List Ln) (S S' : SS), lAll κ nb nw S L = .inl S' → okP S.1 S.2.2 → okP S'.1 S'.2.2 := by
  intro L
  induction L with
  | nil =>
    intro S S' h hP
    cases h
    exact hP
  | cons l r ih =>
    intro S S' h hP
    simp only [lAll] at h
    split at h
    · cases h
    · next S1 h1 => exact ih S1 S' h (lLin_ok h1 hP)
end PUR
