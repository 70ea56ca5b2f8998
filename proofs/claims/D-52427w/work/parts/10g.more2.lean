/-! a reference that is there -/
def sd_nn (x : Option Nat) : sd_M Nat := fun h => match x with
  | some p => some (p, (0, 0), h)
  | none => none
theorem sd_nn_some {β : Type} {K : Nat → sd_M β} {ρ : β} {x : Option Nat} {h h2 : sd_H} {c : Nat × Nat} (hf : sd_bnd (sd_nn x) K h = some (ρ, c, h2)) : ∃ p, x = some p ∧ K p h = some (ρ, c, h2) := by
  obtain ⟨u, c1, c2, h1, e1, e2, rfl⟩ := sd_bnd_some hf
  cases x with
  | none => cases e1
  | some p =>
    cases e1
    exact ⟨_, rfl, by simpa using e2⟩
