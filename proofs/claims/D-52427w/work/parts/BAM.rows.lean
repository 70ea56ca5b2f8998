/-! THE PLAIN LAW: rows of trees are well made -/
/-- how many numbers lie on the stack behind rows -/
def ckL (ne : Nat) : List (Int32 × Int32) → Nat → Option Nat
  | [], d => some d
  | z :: r, d => if isAs z.1 then (if (z.1 = 19 ∨ z.1 = 20) ∧ ¬ (∃ e, e < ne ∧ z.2 = n3 e) then none else ckL ne r (d + 1)) else if isOn z.1 then (if 1 ≤ d then ckL ne r d else none) else (if 2 ≤ d then ckL ne r (d - 1) else none)
theorem chk_ckL {ne : Nat} {x : Nat → Nat → Int32} : ∀ r i d, chk ne x r i d = ckL ne (rwL x r i) d := by
  intro r
  induction r with
  | zero => intro i d; rfl
  | succ r ih =>
    intro i d
    simp only [chk, rwL, ckL]
    rw [ih, ih, ih]
theorem ckL_app {ne : Nat} {w2 : List (Int32 × Int32)} : ∀ (w1 : List (Int32 × Int32)) (d e : Nat), ckL ne w1 d = some e → ckL ne (w1 ++ w2) d = ckL ne w2 e := by
  intro w1
  induction w1 with
  | nil =>
    intro d e h
    cases h
    rfl
  | cons z r ih =>
    intro d e h
    simp only [ckL, List.cons_append] at h ⊢
    split at h
    · split at h
      · cases h
      · rw [if_pos (by assumption), if_neg (by assumption)]
        exact ih _ _ h
    · rw [if_neg (by assumption)]
      split at h
      · rw [if_pos (by assumption)]
        split at h
        · rw [if_pos (by assumption)]
          exact ih _ _ h
        · cases h
      · rw [if_neg (by assumption)]
        split at h
        · rw [if_pos (by assumption)]
          exact ih _ _ h
        · cases h
theorem ck_as {ne : Nat} {o z : Int32} {d : Nat} (h1 : isAs o = true) (h2 : ¬ (o = 19 ∨ o = 20) ∨ ∃ e, e < ne ∧ z = n3 e) : ckL ne [(o, z)] d = some (d + 1) := by
  simp only [ckL]
  rw [if_pos h1, if_neg]
  rintro ⟨q1, q2⟩
  rcases h2 with h2 | h2
  · exact h2 q1
  · exact q2 h2
theorem ck_on {ne : Nat} {o z : Int32} {d : Nat} (h1 : isAs o = false) (h2 : isOn o = true) : ckL ne [(o, z)] (d + 1) = some (d + 1) := by
  simp only [ckL]
  rw [if_neg (by rw [h1]; exact Bool.false_ne_true), if_pos h2, if_pos (by omega)]
theorem ck_bi {ne : Nat} {o z : Int32} {d : Nat} (h1 : isAs o = false) (h2 : isOn o = false) : ckL ne [(o, z)] (d + 2) = some (d + 1) := by
  simp only [ckL]
  rw [if_neg (by rw [h1]; exact Bool.false_ne_true), if_neg (by rw [h2]; exact Bool.false_ne_true), if_pos (by omega)]
  rfl
theorem ck_sm {ne : Nat} {L : Nat → sd_E → Prop} : ∀ D m a w, isSm ne L D m a w → ∀ d, ckL ne w d = some (d + 1) := by
  intro D
  induction D with
  | zero => intro m a w hs; exact hs.elim
  | succ D ih =>
    intro m a w hs d
    rcases hs with ⟨z, -, rfl⟩ | ⟨wa, j, z, hj, -, -, h4⟩ | ⟨s, w', -, -, h2, rfl⟩ | ⟨s, w', -, h2, rfl⟩ | ⟨g, j, l, r, wl, wr, hj, -, -, h3, h4, rfl⟩
    · exact ck_as (by decide) (Or.inl (by decide))
    · have : j = 0 ∨ j = 1 ∨ j = 2 ∨ j = 3 ∨ j = 4 ∨ j = 5 := by omega
      rcases h4 with ⟨j4, rfl⟩ | ⟨j4, he, rfl⟩
      · rcases this with rfl | rfl | rfl | rfl | rfl | rfl
        · exact ck_as (by decide) (Or.inl (by decide))
        · exact ck_as (by decide) (Or.inl (by decide))
        · exact ck_as (by decide) (Or.inl (by decide))
        · exact ck_as (by decide) (Or.inl (by decide))
        · omega
        · omega
      · rcases this with rfl | rfl | rfl | rfl | rfl | rfl
        · omega
        · omega
        · omega
        · omega
        · exact ck_as (by decide) (Or.inr he)
        · exact ck_as (by decide) (Or.inr he)
    · rw [ckL_app _ _ _ (ih _ _ _ h2 d)]
      exact ck_on (by decide) (by decide)
    · rw [ckL_app _ _ _ (ih _ _ _ h2 d)]
      exact ck_on (by decide) (by decide)
    · have e : ckL ne (wl ++ wr) d = some (d + 2) := by
        rw [ckL_app _ _ _ (ih _ _ _ h3 d)]
        exact ih _ _ _ h4 (d + 1)
      rw [ckL_app _ _ _ e]
      have : j = 0 ∨ j = 1 ∨ j = 2 ∨ j = 3 ∨ j = 4 ∨ j = 5 := by omega
      rcases this with rfl | rfl | rfl | rfl | rfl | rfl <;> exact ck_bi (by decide) (by decide)
theorem ck_ts {ne : Nat} {L : Nat → sd_E → Prop} : ∀ D a w, isTs ne L D a w → ∀ d, ckL ne w d = some (d + 1) := by
  intro D
  induction D with
  | zero => intro a w hs; exact hs.elim
  | succ D ih =>
    intro a w hs d
    rcases hs with ⟨al, l, m, r, c, f, ws, -, -, -, -, -, h6, h7, rfl⟩ | ⟨s, w', -, h2, rfl⟩ | ⟨e, -, rfl⟩ | ⟨s, w', -, h2, rfl⟩ | ⟨sg, v, hs, hz, ln, g, l, r, wl, wr, o, -, -, -, h4, h5, h6, rfl⟩
    · have el : ∀ p, p ∈ ws → ∀ d, ckL ne p.2 d = some (d + 1) := by
        intro p hp
        obtain ⟨i, hi⟩ := List.getElem?_of_mem hp
        exact ih _ _ (h7 i p hi).2
      cases ws with
      | nil =>
        have h6 : 1 ≤ 0 := h6
        omega
      | cons p r' =>
        show ckL ne (p.2 ++ r'.flatMap (fun p => p.2 ++ [(oprO al, 0)])) d = some (d + 1)
        rw [ckL_app _ _ _ (el p (by simp) d)]
        have key : ∀ (q : List (Nat × List (Int32 × Int32))), (∀ p, p ∈ q → ∀ d, ckL ne p.2 d = some (d + 1)) → ckL ne (q.flatMap (fun p => p.2 ++ [(oprO al, 0)])) (d + 1) = some (d + 1) := by
          intro q
          induction q with
          | nil => intro _; rfl
          | cons y q ihq =>
            intro hq
            rw [List.flatMap_cons]
            have e : ckL ne (y.2 ++ [(oprO al, 0)]) (d + 1) = some (d + 1) := by
              rw [ckL_app _ _ _ (hq y (by simp) (d + 1))]
              cases al <;> exact ck_bi (by decide) (by decide)
            rw [ckL_app _ _ _ e]
            exact ihq (fun p hp => hq p (by simp [hp]))
        exact key r' (fun p hp => el p (by simp [hp]))
    · rw [ckL_app _ _ _ (ih _ _ h2 d)]
      exact ck_on (by decide) (by decide)
    · exact ck_as (by decide) (Or.inl (by decide))
    · rw [ckL_app _ _ _ (ck_sm _ _ _ _ h2 d)]
      exact ck_on (by decide) (by decide)
    · have e : ckL ne (wl ++ wr) d = some (d + 2) := by
        rw [ckL_app _ _ _ (ck_sm _ _ _ _ h5 d)]
        exact ck_sm _ _ _ _ h6 (d + 1)
      rw [ckL_app _ _ _ e]
      rcases h4 with ⟨-, -, rfl⟩ | ⟨-, -, rfl⟩ | ⟨-, -, rfl⟩ | ⟨-, -, -, rfl⟩ | ⟨-, -, -, rfl⟩ <;> exact ck_bi (by decide) (by decide)
