/-! THE PLAIN LAW: the lines of the first walk -/
/-- the sofa's lists of empires, finds, orders; EL: what an element is -/
def LL (G : sd_G) (n2 : Nat) (F rr sz : Nat → Nat) (EL : Nat → Nat → Nat → Prop) (h : sd_H) : Prop := (∀ k, 3 ≤ k → k ≤ 5 → ∃ mc cap f, lsO G h (F k) mc (rr k) (sz k) cap f ∧ n2 ≤ F k ∧ (rr k = sd_ad G 0 ∨ n2 ≤ rr k) ∧ ∀ j, j < sz k → ∃ o, f j = some o ∧ EL k j o) ∧ ∀ k k', 3 ≤ k → k < k' → k' ≤ 5 → F k ≠ F k' ∧ (rr k = rr k' → rr k = sd_ad G 0)
section LIN
variable {G : sd_G} {u : Nat → Nat} {sz n0 n1 tl so m rd k : Nat} {ta tx : Nat → Nat} {w : Int32} {ky nd iv : Nat → Nat} {kt : Nat → List Nat} {β b : Nat × Nat} {h h' : sd_H} {i d v n2 : Nat} {F rr sz' : Nat → Nat} {EL EL' : Nat → Nat → Nat → Prop}
theorem LL_ne {k k' : Nat} (A : LL G n2 F rr sz' EL h) (h1 : 3 ≤ k) (h2 : k ≤ 5) (h3 : 3 ≤ k') (h4 : k' ≤ 5) (h5 : k ≠ k') : F k ≠ F k' ∧ (rr k = rr k' → rr k = sd_ad G 0) := by
  rcases Nat.lt_or_gt_of_ne h5 with q | q
  · exact A.2 k k' h1 q h4
  · obtain ⟨q1, q2⟩ := A.2 k' k h3 q h2
    exact ⟨fun e => q1 e.symm, fun e => by rw [e]; exact q2 e.symm⟩
/-- a line may have changed: a list with its array, or a cushion -/
theorem LL_kp {M : Nat → Prop} (wf : wfH G h) (R : RC G u sz n0 tl ta tx rd w so m k ky nd iv kt i d h) (A : LL G n2 F rr sz' EL h) (f : lfr rd (nmA u sz tx) n0 M h h') {a r s cap : Nat} {mc : Int32} {ff : Nat → Option Nat} (L : lsO G h a mc r s cap ff) (hM : ∀ z, M z → z ≠ a ∧ (z = r → r = sd_ad G 0)) : lsO G h' a mc r s cap ff := by
  obtain ⟨l1, l2, l3⟩ := L
  have nrd : ∀ z e, h.2 z = some e → isRC e = false → z ≠ rd ∧ ¬ nmA u sz tx z := by
    intro z e hz he
    constructor
    · rintro rfl
      rw [R.2.1] at hz
      cases hz
      cases he
    · intro q
      obtain ⟨v, hs, hz', e'⟩ := nmA_s R.1 _ _ q hz
      rw [e'] at he
      cases he
  have q1 := nrd _ _ l1 rfl
  refine ⟨f.2 _ _ l1 q1.1 q1.2 rfl (fun q => (hM _ q).1 rfl), ?_, l3⟩
  rcases l2 with q | ⟨q, q'⟩
  · exact Or.inl q
  · have q2 := nrd _ _ q rfl
    refine Or.inr ⟨f.2 _ _ q q2.1 q2.2 rfl (fun z => ?_), q'⟩
    have := (hM _ z).2 rfl
    rw [this, (wfH_z0 wf).1] at q
    cases q
theorem LL_add {M : Nat → Prop} {k0 o r' cap' : Nat} {mc' : Int32} {f f' : Nat → Option Nat} {mc : Int32} {cap : Nat} (wf : wfH G h) (R : RC G u sz n0 tl ta tx rd w so m k ky nd iv kt i d h) (A : LL G n2 F rr sz' EL h) (h3 : 3 ≤ k0) (h5 : k0 ≤ 5) (L0 : lsO G h (F k0) mc (rr k0) (sz' k0) cap f) (E0 : ∀ j, j < sz' k0 → ∃ o, f j = some o ∧ EL k0 j o) (fr : lfr rd (nmA u sz tx) n0 M h h') (hM : ∀ z, M z → z = F k0 ∨ z = rr k0 ∨ ∃ fs, h.2 z = some (.inr (3, fs))) (L' : lsO G h' (F k0) mc' r' (sz' k0 + 1) cap' f') (g1 : ∀ j, j < sz' k0 → f' j = f j) (g2 : f' (sz' k0) = some o) (g3 : r' = rr k0 ∨ h.1 ≤ r') (g4 : r' = sd_ad G 0 ∨ n2 ≤ r') (hE : ∀ k j o, 3 ≤ k → k ≤ 5 → j < sz' k → EL k j o → EL' k j o) (hE0 : EL' k0 (sz' k0) o) : LL G n2 F (updN rr k0 r') (updN sz' k0 (sz' k0 + 1)) EL' h' := by
  have Mk : ∀ k, 3 ≤ k → k ≤ 5 → k ≠ k0 → ∀ mc cap ff, lsO G h (F k) mc (rr k) (sz' k) cap ff → ∀ z, M z → z ≠ F k ∧ (z = rr k → rr k = sd_ad G 0) := by
    intro k k1 k2 k3 mc cap ff L z hz
    obtain ⟨q1, q2⟩ := LL_ne A k1 k2 h3 h5 k3
    rcases hM z hz with rfl | rfl | ⟨fs, hz⟩
    · refine ⟨fun q => q1 q.symm, fun q => ?_⟩
      rcases L.2.1 with ⟨q3, -⟩ | ⟨q3, -⟩
      · exact q3
      · rw [← q, L0.1] at q3
        cases q3
    · refine ⟨fun q => ?_, fun q => q2 q.symm⟩
      rcases L0.2.1 with ⟨q3, -⟩ | ⟨q3, -⟩
      · have l := L.1
        rw [← q, q3, (wfH_z0 wf).1] at l
        cases l
      · rw [q, L.1] at q3
        cases q3
    · constructor
      · rintro rfl
        rw [L.1] at hz
        cases hz
      · rintro rfl
        rcases L.2.1 with ⟨q3, -⟩ | ⟨q3, -⟩
        · exact q3
        · rw [q3] at hz
          cases hz
  refine ⟨fun k k1 k2 => ?_, fun k k' k1 k2 k3 => ?_⟩
  · by_cases c : k = k0
    · subst c
      rw [updN_same, updN_same]
      obtain ⟨mc2, cap2, f2, a1, a2, a3, a4⟩ := A.1 k k1 k2
      refine ⟨mc', cap', f', L', a2, g4, fun j hj => ?_⟩
      by_cases cj : j = sz' k
      · rw [cj]
        exact ⟨o, g2, hE0⟩
      · obtain ⟨o', e1, e2⟩ := E0 j (by omega)
        exact ⟨o', (g1 j (by omega)).trans e1, hE k j o' k1 k2 (by omega) e2⟩
    · rw [updN_ne c, updN_ne c]
      obtain ⟨mc2, cap2, f2, a1, a2, a3, a4⟩ := A.1 k k1 k2
      refine ⟨mc2, cap2, f2, LL_kp wf R A fr a1 (Mk k k1 k2 c mc2 cap2 f2 a1), a2, a3, fun j hj => ?_⟩
      obtain ⟨o', e1, e2⟩ := a4 j hj
      exact ⟨o', e1, hE k j o' k1 k2 hj e2⟩
  · refine ⟨(A.2 k k' k1 k2 k3).1, fun q => ?_⟩
    have old : ∀ k, 3 ≤ k → k ≤ 5 → rr k = sd_ad G 0 ∨ rr k < h.1 := by
      intro k k1 k2
      obtain ⟨mc2, cap2, f2, a1, a2, a3, a4⟩ := A.1 k k1 k2
      rcases a1.2.1 with ⟨q, -⟩ | ⟨q, -⟩
      · exact Or.inl q
      · exact Or.inr (wf.1 _ _ q).2
    have z0 := (wfH_z0 wf).2
    have z1 := wf.2.1
    by_cases c : k = k0
    · subst c
      rw [updN_same] at q ⊢
      rw [updN_ne (show k' ≠ k by omega)] at q
      rcases g3 with g3 | g3
      · rw [g3] at q ⊢
        exact (A.2 k k' k1 k2 k3).2 q
      · rcases old k' (by omega) k3 with o1 | o1
        · rw [q]
          exact o1
        · omega
    · rw [updN_ne c] at q ⊢
      by_cases c' : k' = k0
      · subst c'
        rw [updN_same] at q
        rcases g3 with g3 | g3
        · rw [g3] at q
          exact (A.2 k k' k1 k2 k3).2 q
        · rcases old k k1 (by omega) with o1 | o1
          · exact o1
          · omega
      · rw [updN_ne c'] at q
        exact (A.2 k k' k1 k2 k3).2 q
theorem LL_same {M : Nat → Prop} (wf : wfH G h) (R : RC G u sz n0 tl ta tx rd w so m k ky nd iv kt i d h) (A : LL G n2 F rr sz' EL h) (fr : lfr rd (nmA u sz tx) n0 M h h') (hM : ∀ z, M z → ∃ d fs, h.2 z = some (.inr (d, fs)) ∧ d ≠ 41) (hE : ∀ k j o, 3 ≤ k → k ≤ 5 → j < sz' k → EL k j o → EL' k j o) : LL G n2 F rr sz' EL' h' := by
  refine ⟨fun k k1 k2 => ?_, A.2⟩
  obtain ⟨mc2, cap2, f2, a1, a2, a3, a4⟩ := A.1 k k1 k2
  refine ⟨mc2, cap2, f2, LL_kp wf R A fr a1 (fun z hz => ?_), a2, a3, fun j hj => ?_⟩
  · obtain ⟨d', fs, hz, hd⟩ := hM z hz
    constructor
    · rintro rfl
      rw [a1.1] at hz
      cases hz
      exact hd rfl
    · rintro rfl
      rcases a1.2.1 with ⟨q3, -⟩ | ⟨q3, -⟩
      · exact q3
      · rw [q3] at hz
        cases hz
  · obtain ⟨o', e1, e2⟩ := a4 j hj
    exact ⟨o', e1, hE k j o' k1 k2 hj e2⟩
/-- an element of the first walk: an object of one of three sorts -/
def EL1 (h : sd_H) (_ _ o : Nat) : Prop := ∃ d fs, h.2 o = some (.inr (d, fs)) ∧ (d = 10 ∨ d = 11 ∨ d = 17)
theorem EL1_ok {a b o : Nat} (E : EL1 h a b o) : sd_okQ G h 4 (some o) = true := by
  obtain ⟨d, fs, e1, e2⟩ := E
  unfold sd_okQ
  simp only [sd_look_new e1]
  rcases e2 with rfl | rfl | rfl <;> rfl
theorem EL1_kp {M : Nat → Prop} {a b o : Nat} (R : RC G u sz n0 tl ta tx rd w so m k ky nd iv kt i d h) (fr : lfr rd (nmA u sz tx) n0 M h h') (hM : ∀ z, M z → ∀ d fs, h.2 z = some (.inr (d, fs)) → d = 41 ∨ d = 3 ∨ d = 2) (E : EL1 h a b o) : EL1 h' a b o := by
  obtain ⟨d, fs, e1, e2⟩ := E
  refine ⟨d, fs, fr.2 _ _ e1 ?_ ?_ ?_ ?_, e2⟩
  · rintro rfl
    rw [R.2.1] at e1
    cases e1
    omega
  · intro q
    obtain ⟨v, hs, hz', e'⟩ := nmA_s R.1 _ _ q e1
    cases e'
    omega
  · rcases e2 with rfl | rfl | rfl <;> rfl
  · intro q
    have := hM _ q _ _ e1
    omega
end LIN
