/-! THE PLAIN LAW: faults of the component's second walk are those of the second look -/
section REL
variable {u : Nat → Nat} {sz i : Nat} {S : SS} {kt : Nat → List Nat}
theorem nm_ok (hi : i ≤ nT u sz) (hk : kdT u sz i = 30) : okN (txT u sz i) := by
  have hlt := tk_lt31 hi hk (by decide) (by decide)
  rcases tk_cases hlt with ⟨k1, k2⟩ | ⟨k1, k2, k3, k4, k5⟩ | ⟨c', k1, k2, k3⟩ | ⟨c', k1, k2, k3⟩
  · omega
  · exact k4
  · have := sym_not k1
    omega
  · omega
/-- names told so far, in the map and in the book -/
def nmR (S : SS) (kt : Nat → List Nat) : Prop := ∀ j, j < S.1 22 → S.2.1 j = nmW (kt j) ∧ okN (kt j)
theorem fnN_fd {l : List Nat} (ok : okN l) {nm : Nat → Nat} : ∀ r i, (∀ j, i ≤ j → j < i + r → nm j = nmW (kt j) ∧ okN (kt j)) → fnN nm (nmW l) r i = (List.range' i r).find? (fun j => decide (kt j = l)) := by
  intro r
  induction r with
  | zero => intro i _; rfl
  | succ r ih =>
    intro i h
    obtain ⟨h1, h2⟩ := h i (Nat.le_refl _) (by omega)
    simp only [fnN, List.range'_succ]
    by_cases c : kt i = l
    · rw [if_pos (by rw [h1, c])]
      exact (List.find?_cons_of_pos (p := fun j => decide (kt j = l)) (decide_eq_true c)).symm
    · rw [if_neg (fun q => c (nmW_inj _ _ _ rfl h2 ok (h1.symm.trans q))), List.find?_cons_of_neg (p := fun j => decide (kt j = l)) (by rw [decide_eq_false c]; exact Bool.false_ne_true)]
      exact ih (i + 1) (fun j h1 h2 => h j (by omega) (by omega))
theorem fnd_fd {l : List Nat} (R : nmR S kt) (ok : okN l) : fnd S (nmW l) = fdK kt l (List.range (S.1 22)) := by
  unfold fnd fdK
  rw [fnN_fd ok _ _ (fun j _ h2 => R j (by omega)), List.range_eq_range']
theorem emp_inr {er : Int32} {t : Nat} (R : nmR S kt) (hk : S.1 22 ≤ 6) (ok : okN (txT u sz (i + 1))) (h : eEmp (S.1 22) kt u sz i = some (er, t)) : ∃ e, lEmp (nbT u sz) (nwT u sz) S i = .inr (e, t) ∧ er = n3 e := by
  unfold eEmp at h
  unfold lEmp
  rw [show nwT u sz (i + 1) = nmW (txT u sz (i + 1)) from rfl, fnd_fd R ok]
  by_cases c1 : (fdK kt (txT u sz (i + 1)) (List.range (S.1 22))).isSome = true
  · rw [if_pos c1] at h ⊢
    cases h
    exact ⟨2, rfl, rfl⟩
  · rw [if_neg c1] at h ⊢
    by_cases c2 : 6 ≤ S.1 22
    · rw [if_pos c2] at h
      rw [if_pos (show S.1 22 = 6 by omega)]
      cases h
      exact ⟨4, rfl, rfl⟩
    · rw [if_neg c2] at h
      rw [if_neg (show ¬ S.1 22 = 6 by omega)]
      by_cases c3 : 999 < nbT u sz (i + 3)
      · rw [if_pos c3] at h ⊢
        cases h
        exact ⟨5, rfl, rfl⟩
      · rw [if_neg c3] at h ⊢
        by_cases c4 : 999 < nbT u sz (i + 5) ∨ nbT u sz (i + 5) < nbT u sz (i + 3)
        · rw [if_pos c4] at h ⊢
          cases h
          exact ⟨5, rfl, rfl⟩
        · rw [if_neg c4] at h
          cases h
theorem emp_inl (R : nmR S kt) (hk : S.1 22 ≤ 6) (ok : okN (txT u sz (i + 1))) (h : eEmp (S.1 22) kt u sz i = none) : lEmp (nbT u sz) (nwT u sz) S i = .inl (updN S.1 22 (S.1 22 + 1), updN S.2.1 (S.1 22) (nwT u sz (i + 1)), up2 (up2 S.2.2 24 (S.1 22) (n3 (nbT u sz (i + 3)))) 25 (S.1 22) (n3 (nbT u sz (i + 5)))) ∧ S.1 22 < 6 ∧ fdK kt (txT u sz (i + 1)) (List.range (S.1 22)) = none := by
  unfold eEmp at h
  unfold lEmp
  rw [show nwT u sz (i + 1) = nmW (txT u sz (i + 1)) from rfl, fnd_fd R ok]
  by_cases c1 : (fdK kt (txT u sz (i + 1)) (List.range (S.1 22))).isSome = true
  · rw [if_pos c1] at h
    cases h
  · rw [if_neg c1] at h ⊢
    by_cases c2 : 6 ≤ S.1 22
    · rw [if_pos c2] at h
      cases h
    · rw [if_neg c2] at h
      rw [if_neg (show ¬ S.1 22 = 6 by omega)]
      by_cases c3 : 999 < nbT u sz (i + 3)
      · rw [if_pos c3] at h
        cases h
      · rw [if_neg c3] at h ⊢
        by_cases c4 : 999 < nbT u sz (i + 5) ∨ nbT u sz (i + 5) < nbT u sz (i + 3)
        · rw [if_pos c4] at h
          cases h
        · rw [if_neg c4]
          refine ⟨rfl, by omega, ?_⟩
          cases hd : fdK kt (txT u sz (i + 1)) (List.range (S.1 22)) with
          | none => rfl
          | some j =>
            rw [hd] at c1
            exact absurd rfl c1
theorem spr_inr {er : Int32} {t : Nat} (h : eSpr (S.1 20) (S.1 21) S.2.2 u sz i = some (er, t)) : ∃ e, lSpr (nbT u sz) S i = .inr (e, t) ∧ er = n3 e := by
  unfold eSpr at h
  unfold lSpr lPla
  by_cases c1 : S.1 20 ≤ nbT u sz (i + 2)
  · rw [if_pos c1] at h ⊢
    cases h
    exact ⟨5, rfl, rfl⟩
  · rw [if_neg c1] at h ⊢
    by_cases c2 : S.1 21 ≤ nbT u sz (i + 4)
    · rw [if_pos c2] at h ⊢
      cases h
      exact ⟨5, rfl, rfl⟩
    · rw [if_neg c2] at h ⊢
      by_cases c3 : S.2.2 31 (10 * nbT u sz (i + 2) + nbT u sz (i + 4)) ≠ 0
      · rw [if_pos c3] at h
        rw [if_pos (show (if false = true then S.2.2 30 (10 * nbT u sz (i + 2) + nbT u sz (i + 4)) ≠ -1 else S.2.2 31 (10 * nbT u sz (i + 2) + nbT u sz (i + 4)) ≠ 0) from c3)]
        cases h
        exact ⟨2, rfl, rfl⟩
      · rw [if_neg c3] at h
        cases h
theorem spr_inl (h : eSpr (S.1 20) (S.1 21) S.2.2 u sz i = none) : lSpr (nbT u sz) S i = .inl (S.1, S.2.1, up2 S.2.2 31 (10 * nbT u sz (i + 2) + nbT u sz (i + 4)) 1) := by
  unfold eSpr at h
  unfold lSpr lPla
  by_cases c1 : S.1 20 ≤ nbT u sz (i + 2)
  · rw [if_pos c1] at h
    cases h
  · rw [if_neg c1] at h ⊢
    by_cases c2 : S.1 21 ≤ nbT u sz (i + 4)
    · rw [if_pos c2] at h
      cases h
    · rw [if_neg c2] at h ⊢
      by_cases c3 : S.2.2 31 (10 * nbT u sz (i + 2) + nbT u sz (i + 4)) ≠ 0
      · rw [if_pos c3] at h
        cases h
      · rw [if_neg (show ¬ (if false = true then S.2.2 30 (10 * nbT u sz (i + 2) + nbT u sz (i + 4)) ≠ -1 else S.2.2 31 (10 * nbT u sz (i + 2) + nbT u sz (i + 4)) ≠ 0) from c3)]
theorem fin_inr {er : Int32} {t : Nat} {co : Bool} (R : nmR S kt) (hk : S.1 26 ≤ 24) (ok : co = false → okN (txT u sz (i + 6))) (h : eFin (S.1 26) (S.1 20) (S.1 21) S.2.2 (S.1 22) kt u sz i co = some (er, t)) : ∃ e, lFin (nbT u sz) (nwT u sz) S i co = .inr (e, t) ∧ er = n3 e := by
  unfold eFin at h
  unfold lFin lPla
  by_cases c0 : 24 ≤ S.1 26
  · rw [if_pos c0] at h
    rw [if_pos (show S.1 26 = 24 by omega)]
    cases h
    exact ⟨4, rfl, rfl⟩
  · rw [if_neg c0] at h
    rw [if_neg (show ¬ S.1 26 = 24 by omega)]
    by_cases c1 : S.1 20 ≤ nbT u sz (i + 2)
    · rw [if_pos c1] at h ⊢
      cases h
      exact ⟨5, rfl, rfl⟩
    · rw [if_neg c1] at h ⊢
      by_cases c2 : S.1 21 ≤ nbT u sz (i + 4)
      · rw [if_pos c2] at h ⊢
        cases h
        exact ⟨5, rfl, rfl⟩
      · rw [if_neg c2] at h ⊢
        by_cases c3 : S.2.2 30 (10 * nbT u sz (i + 2) + nbT u sz (i + 4)) ≠ -1
        · rw [if_pos c3] at h
          rw [if_pos (show (if true = true then S.2.2 30 (10 * nbT u sz (i + 2) + nbT u sz (i + 4)) ≠ -1 else S.2.2 31 (10 * nbT u sz (i + 2) + nbT u sz (i + 4)) ≠ 0) from c3)]
          cases h
          exact ⟨2, rfl, rfl⟩
        · rw [if_neg c3] at h
          rw [if_neg (show ¬ (if true = true then S.2.2 30 (10 * nbT u sz (i + 2) + nbT u sz (i + 4)) ≠ -1 else S.2.2 31 (10 * nbT u sz (i + 2) + nbT u sz (i + 4)) ≠ 0) from c3)]
          cases co with
          | true =>
            rw [if_pos rfl] at h
            by_cases c4 : 999 < nbT u sz (i + 6)
            · rw [if_pos c4] at h
              cases h
              refine ⟨5, ?_, rfl⟩
              show (if true = true then (if 999 < nbT u sz (i + 6) then Sum.inr (5, i + 6) else _) else _) = _
              rw [if_pos rfl, if_pos c4]
            · rw [if_neg c4] at h
              cases h
          | false =>
            rw [if_neg (by decide)] at h
            by_cases c4 : fdK kt (txT u sz (i + 6)) (List.range (S.1 22)) = none
            · rw [if_pos c4] at h
              cases h
              refine ⟨3, ?_, rfl⟩
              have e : fnd S (nwT u sz (i + 6)) = none := (fnd_fd R (ok rfl)).trans c4
              show (if false = true then _ else match fnd S (nwT u sz (i + 6)) with
                | none => Sum.inr (3, i + 6)
                | some e => _) = _
              rw [if_neg (by decide), e]
            · rw [if_neg c4] at h
              cases h
theorem fin_inl {co : Bool} {told : Int32} (R : nmR S kt) (hk : S.1 26 ≤ 24) (ok : co = false → okN (txT u sz (i + 6))) (h : eFin (S.1 26) (S.1 20) (S.1 21) S.2.2 (S.1 22) kt u sz i co = none) (t1 : co = true → told = n3 (nbT u sz (i + 6))) (t2 : co = false → ∃ e, fdK kt (txT u sz (i + 6)) (List.range (S.1 22)) = some e ∧ told = n3 e) : ∃ x', lFin (nbT u sz) (nwT u sz) S i co = .inl (updN S.1 26 (S.1 26 + 1), S.2.1, x') ∧ ∀ j, j ≠ 9 → x' j = up2 (up2 (up2 (up2 S.2.2 27 (S.1 26) (bI co)) 30 (10 * nbT u sz (i + 2) + nbT u sz (i + 4)) (n3 (S.1 26))) 28 (S.1 26) (n3 (10 * nbT u sz (i + 2) + nbT u sz (i + 4)))) 29 (S.1 26) told j := by
  unfold eFin at h
  unfold lFin lPla
  by_cases c0 : 24 ≤ S.1 26
  · rw [if_pos c0] at h
    cases h
  · rw [if_neg c0] at h
    rw [if_neg (show ¬ S.1 26 = 24 by omega)]
    by_cases c1 : S.1 20 ≤ nbT u sz (i + 2)
    · rw [if_pos c1] at h
      cases h
    · rw [if_neg c1] at h ⊢
      by_cases c2 : S.1 21 ≤ nbT u sz (i + 4)
      · rw [if_pos c2] at h
        cases h
      · rw [if_neg c2] at h ⊢
        by_cases c3 : S.2.2 30 (10 * nbT u sz (i + 2) + nbT u sz (i + 4)) ≠ -1
        · rw [if_pos c3] at h
          cases h
        · rw [if_neg c3] at h
          rw [if_neg (show ¬ (if true = true then S.2.2 30 (10 * nbT u sz (i + 2) + nbT u sz (i + 4)) ≠ -1 else S.2.2 31 (10 * nbT u sz (i + 2) + nbT u sz (i + 4)) ≠ 0) from c3)]
          cases co with
          | true =>
            rw [if_pos rfl] at h
            by_cases c4 : 999 < nbT u sz (i + 6)
            · rw [if_pos c4] at h
              cases h
            · refine ⟨_, ?_, fun j _ => rfl⟩
              show (if true = true then (if 999 < nbT u sz (i + 6) then Sum.inr (5, i + 6) else _) else _) = _
              rw [if_pos rfl, if_neg c4, t1 rfl]
              rfl
          | false =>
            obtain ⟨e, e1, e2⟩ := t2 rfl
            have e3 : fnd S (nwT u sz (i + 6)) = some e := (fnd_fd R (ok rfl)).trans e1
            refine ⟨up2 (up2 (up2 (up2 (up2 S.2.2 27 (S.1 26) 0) 30 (10 * nbT u sz (i + 2) + nbT u sz (i + 4)) (n3 (S.1 26))) 28 (S.1 26) (n3 (10 * nbT u sz (i + 2) + nbT u sz (i + 4)))) 29 (S.1 26) (n3 e)) 9 (i + 6) (n3 e), ?_, fun j hj => ?_⟩
            · show (if false = true then _ else match fnd S (nwT u sz (i + 6)) with
                | none => Sum.inr (3, i + 6)
                | some e => _) = _
              rw [if_neg (by decide), e3]
            · rw [e2]
              unfold up2
              rw [if_neg hj]
              rfl
/-- names of an order: the first that is not known -/
theorem nam_rel {wk : Nat → Option Nat} : ∀ (ks : List Nat) (S : SS), (∀ j, j ∈ ks → fnd S (nwT u sz j) = wk j) → (∀ t, fstU wk ks = some t → lNam (nwT u sz) S ks = .inr (3, t)) ∧ (fstU wk ks = none → ∃ x', lNam (nwT u sz) S ks = .inl (S.1, S.2.1, x') ∧ ∀ j, j ≠ 9 → x' j = S.2.2 j) := by
  intro ks
  induction ks with
  | nil =>
    intro S _
    exact ⟨(fun t h => by cases h), fun _ => ⟨S.2.2, rfl, fun _ _ => rfl⟩⟩
  | cons a r ih =>
    intro S hw
    have ha := hw a (by simp)
    cases hk : wk a with
    | none =>
      rw [hk] at ha
      have e : fstU wk (a :: r) = some a := List.find?_cons_of_pos (by rw [hk]; rfl)
      refine ⟨fun t h => ?_, fun h => ?_⟩
      · rw [e] at h
        cases h
        simp only [lNam, ha]
      · rw [e] at h
        cases h
    | some z =>
      rw [hk] at ha
      have e : fstU wk (a :: r) = fstU wk r := List.find?_cons_of_neg (by rw [hk]; exact Bool.false_ne_true)
      obtain ⟨i1, i2⟩ := ih (S.1, S.2.1, up2 S.2.2 9 a (n3 z)) (fun j hj => hw j (by simp [hj]))
      rw [e]
      refine ⟨fun t h => ?_, fun h => ?_⟩
      · simp only [lNam, ha]
        exact i1 t h
      · obtain ⟨x', q1, q2⟩ := i2 h
        refine ⟨x', ?_, fun j hj => ?_⟩
        · simp only [lNam, ha]
          exact q1
        · rw [q2 j hj]
          exact if_neg hj
end REL
