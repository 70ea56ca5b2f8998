/-! THE PLAIN LAW: heaps well formed -/
theorem up_at (h : sd_H) (a : Nat) (e : sd_E) : (sd_up h a e).2 a = some e := if_pos rfl
theorem up_ne {h : sd_H} {a z : Nat} {e : sd_E} (hz : z ≠ a) : (sd_up h a e).2 z = h.2 z := if_neg hz
theorem pu_at (h : sd_H) (e : sd_E) : (sd_pu h e).2 h.1 = some e := if_pos rfl
theorem pu_ne {h : sd_H} {z : Nat} {e : sd_E} (hz : z ≠ h.1) : (sd_pu h e).2 z = h.2 z := if_neg hz
theorem look_eq {G : sd_G} {h h' : sd_H} {z : Nat} (e : h'.2 z = h.2 z) : sd_look G h' z = sd_look G h z := by
  unfold sd_look
  rw [e]
/-- cells lie between the first new address and the size, constants below; the empty array of the library is there -/
def wfH (G : sd_G) (h : sd_H) : Prop := (∀ a e, h.2 a = some e → sd_z G ≤ a ∧ a < h.1) ∧ sd_z G ≤ h.1 ∧ (∀ a e, sd_c G a = some e → a < sd_z G) ∧ ∃ f, sd_c G (sd_ad G 0) = some (aR 0 f)
theorem wfH_z0 {G : sd_G} {h : sd_H} (w : wfH G h) : h.2 (sd_ad G 0) = none ∧ sd_ad G 0 < sd_z G := by
  obtain ⟨w1, w2, w3, f, w4⟩ := w
  have h1 := w3 _ _ w4
  refine ⟨?_, h1⟩
  cases hz : h.2 (sd_ad G 0) with
  | none => rfl
  | some e =>
    have := (w1 _ _ hz).1
    omega
theorem wfH_up {G : sd_G} {h : sd_H} {a : Nat} {e e0 : sd_E} (w : wfH G h) (ha : h.2 a = some e0) : wfH G (sd_up h a e) := by
  obtain ⟨w1, w2, w3, w4⟩ := w
  refine ⟨fun z e' hz => ?_, w2, w3, w4⟩
  by_cases c : z = a
  · subst c
    exact w1 _ _ ha
  · rw [up_ne c] at hz
    exact w1 _ _ hz
theorem wfH_pu {G : sd_G} {h : sd_H} {e : sd_E} (w : wfH G h) : wfH G (sd_pu h e) := by
  obtain ⟨w1, w2, w3, w4⟩ := w
  refine ⟨fun z e' hz => ?_, Nat.le_succ_of_le w2, w3, w4⟩
  by_cases c : z = h.1
  · subst c
    exact ⟨w2, Nat.lt_succ_self _⟩
  · rw [pu_ne c] at hz
    exact ⟨(w1 _ _ hz).1, Nat.lt_succ_of_lt (w1 _ _ hz).2⟩
theorem wfH_z {G : sd_G} {h : sd_H} (w : wfH G h) : ∃ f, sd_look G h (sd_ad G 0) = some (aR 0 f) := by
  have h1 := (wfH_z0 w).1
  obtain ⟨-, -, -, f, w4⟩ := w
  refine ⟨f, ?_⟩
  unfold sd_look
  rw [h1]
  exact w4
/-- what can be looked up lies below the size -/
theorem wfH_lt {G : sd_G} {h : sd_H} {a : Nat} {e : sd_E} (w : wfH G h) (ha : sd_look G h a = some e) : a < h.1 := by
  unfold sd_look at ha
  cases hz : h.2 a with
  | some e' => exact (w.1 _ _ hz).2
  | none =>
    rw [hz] at ha
    have := w.2.2.1 _ _ ha
    have := w.2.1
    omega
section WX
variable {G : sd_G} {n n' : Nat} {ρ ρ' : Nat → Option Nat} {K : Nat → Option sd_E} {ad ad' F : Nat → Nat} {q : Nat → Nat} {x : Nat → Nat → Int32} {mc mc' : Nat → Int32} {em em' cs : Nat → Bool} {t t' : TT}
theorem wfH_X (w : wfH G (hSo G n ρ K ad F q x mc em t)) (A : sOk n ρ ad (q 20) em cs) (A' : sOk n' ρ' ad' (q 20) em' cs) (X : xt n ρ ad em n' ρ' ad' em') : wfH G (hSo G n' ρ' K ad' F q x mc' em' t') := by
  obtain ⟨w1, w2, w3, w4⟩ := w
  have w2 : sd_z G ≤ n := w2
  refine ⟨fun a e ha => ?_, Nat.le_trans w2 X.1, w3, w4⟩
  unfold hSo at ha w1
  cases hr : ρ' a with
  | some i =>
    refine ⟨?_, A'.2.2 a i hr⟩
    by_cases c : a < n
    · have h1 : ρ a = some i := (X.2.1 a c).symm.trans hr
      exact (w1 a _ (nh_at h1)).1
    · omega
  | none =>
    rw [nh_out hr] at ha
    have hr0 : ρ a = none := by
      by_cases c : a < n
      · exact (X.2.1 a c).symm.trans hr
      · cases h : ρ a with
        | none => rfl
        | some i =>
          have := A.2.2 a i h
          omega
    have h2 := w1 a e ((nh_out hr0).trans ha)
    exact ⟨h2.1, Nat.lt_of_lt_of_le h2.2 X.1⟩
theorem wfH_same (w : wfH G (hSo G n ρ K ad F q x mc em t)) : wfH G (hSo G n ρ K ad F q x mc' em' t') := by
  obtain ⟨w1, w2, w3, w4⟩ := w
  refine ⟨fun a e ha => ?_, w2, w3, w4⟩
  unfold hSo at ha w1
  cases hr : ρ a with
  | some i => exact w1 a _ (nh_at hr)
  | none =>
    rw [nh_out hr] at ha
    exact w1 a e ((nh_out hr).trans ha)
end WX
