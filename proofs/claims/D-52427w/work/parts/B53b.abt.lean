/-! THE PLAIN LAW: rows about empires tell the tokens of names -/
def abR (z : Int32 × Int32) : Prop := z.1 = 19 ∨ z.1 = 20 ∨ z.1 = 22
def abt (r : PR) : Prop := match r with
  | .inl (_, w, ks) => ∀ z, z ∈ w → abR z → ∃ k, k ∈ ks ∧ z.2 = n3 k
  | .inr _ => True
section ABT
variable {κ : Nat → Nat} {vl : Nat → Int32}
theorem abt_add {j : Nat} {w : List (Int32 × Int32)} {ks : List Nat} {r : PR} (h1 : abt (.inl (j, w, ks))) (h2 : abt r) : abt (addR w ks r) := by
  cases r with
  | inr j' => exact True.intro
  | inl t =>
    obtain ⟨j', w', ks'⟩ := t
    intro z hz ha
    have hz : z ∈ w ++ w' := hz
    rw [List.mem_append] at hz
    rcases hz with hz | hz
    · obtain ⟨k, k1, k2⟩ := h1 z hz ha
      exact ⟨k, List.mem_append.mpr (Or.inl k1), k2⟩
    · obtain ⟨k, k1, k2⟩ := h2 z hz ha
      exact ⟨k, List.mem_append.mpr (Or.inr k1), k2⟩
theorem abt_sqc {a : Option PR} {k : Nat → Option PR} {r : PR} (h : sqc a k = some r) (ha : ∀ r1, a = some r1 → abt r1) (hk : ∀ j r', k j = some r' → abt r') : abt r := by
  rcases sqc_some h with ⟨j, e1, rfl⟩ | ⟨j, w, ks, r', e1, e2, rfl⟩
  · exact True.intro
  · exact abt_add (ha _ e1) (hk j r' e2)
theorem abt_w {j : Nat} {z : Int32 × Int32} {r : PR} (hz : ¬ abR z) (h : prW z j = some r) : abt r := by
  unfold prW at h
  cases h
  intro z' hz' ha
  rw [List.mem_singleton] at hz'
  exact absurd (hz' ▸ ha) hz
theorem abt_nil {j : Nat} : abt (.inl (j, [], [])) := fun z hz => by cases hz
theorem abt_T {c j : Nat} {k : Option PR} {r : PR} (h : prT κ c j k = some r) (hk : ∀ r', k = some r' → abt r') : abt r := by
  rcases prT_some h with ⟨e3, e4⟩ | ⟨e3, rfl⟩
  · exact hk _ e4
  · exact True.intro
theorem not_ab {o z : Int32} (h1 : o ≠ 19) (h2 : o ≠ 20) (h3 : o ≠ 22) : ¬ abR (o, z) := by
  rintro (h | h | h)
  · exact h1 h
  · exact h2 h
  · exact h3 h
theorem not_abn {c : Nat} {z : Int32} (hc : c < 1000) (h1 : c ≠ 19) (h2 : c ≠ 20) (h3 : c ≠ 22) : ¬ abR (n3 c, z) := by
  refine not_ab ?_ ?_ ?_
  · rw [show (19 : Int32) = n3 19 from rfl, Ne, n3_eq (by omega) (by omega)]
    exact h1
  · rw [show (20 : Int32) = n3 20 from rfl, Ne, n3_eq (by omega) (by omega)]
    exact h2
  · rw [show (22 : Int32) = n3 22 from rfl, Ne, n3_eq (by omega) (by omega)]
    exact h3
theorem sgO_ab {c : Nat} {o : Int32} (h : sgO c = some o) : ¬ abR (o, 0) := by
  unfold sgO at h
  split at h
  · cases h
    exact not_ab (by decide) (by decide) (by decide)
  · split at h
    · cases h
      exact not_ab (by decide) (by decide) (by decide)
    · split at h
      · cases h
        exact not_ab (by decide) (by decide) (by decide)
      · split at h
        · cases h
          exact not_ab (by decide) (by decide) (by decide)
        · split at h
          · cases h
            exact not_ab (by decide) (by decide) (by decide)
          · cases h
theorem pE_abt : ∀ n c i d r, pE κ vl n c i d = some r → abt r := by
  intro n
  induction n with
  | zero => intro c i d r h; cases h
  | succ n ih =>
    intro c i d r h
    have nb : ∀ {o z : Int32}, o = 101 ∨ o = 102 ∨ o = 103 ∨ o = 104 ∨ o = 105 ∨ o = 21 ∨ o = 23 ∨ o = 24 ∨ o = 25 ∨ o = 26 ∨ o = 100 → ¬ abR (o, z) := by
      intro o z h
      rcases h with rfl | rfl | rfl | rfl | rfl | rfl | rfl | rfl | rfl | rfl | rfl <;> exact not_ab (by decide) (by decide) (by decide)
    replace h : pB κ vl (pE κ vl n) c i d = some r := h
    unfold pB at h
    split at h
    · exact abt_sqc h (fun r1 e1 => ih _ _ _ r1 e1) (fun j r' e2 => ih _ _ _ r' e2)
    · split at h
      · unfold pSumR at h
        split at h
        · refine abt_sqc h (fun r1 e1 => abt_sqc e1 (fun r2 e2 => ih _ _ _ r2 e2) (fun j r' e2 => abt_w ?_ e2)) (fun j r' e2 => ih _ _ _ r' e2)
          split
          · exact nb (by simp)
          · exact nb (by simp)
        · cases h
          exact abt_nil
      · split at h
        · exact abt_sqc h (fun r1 e1 => ih _ _ _ r1 e1) (fun j r' e2 => ih _ _ _ r' e2)
        · split at h
          · unfold pProR at h
            split at h
            · refine abt_sqc h (fun r1 e1 => abt_sqc e1 (fun r2 e2 => ih _ _ _ r2 e2) (fun j r' e2 => abt_w ?_ e2)) (fun j r' e2 => ih _ _ _ r' e2)
              split
              · exact nb (by simp)
              · exact nb (by simp)
            · cases h
              exact abt_nil
          · split at h
            · unfold pVal at h
              split at h
              · split at h
                · cases h
                  exact True.intro
                · exact abt_sqc h (fun r1 e1 => ih _ _ _ r1 e1) (fun j r' e2 => abt_w (nb (by simp)) e2)
              · split at h
                · split at h
                  · cases h
                    exact True.intro
                  · exact abt_sqc h (fun r1 e1 => ih _ _ _ r1 e1) (fun j r' e2 => abt_T e2 (fun r2 e3 => by cases e3; exact abt_nil))
                · split at h
                  · next e =>
                    split at h
                    · cases h
                      exact True.intro
                    · refine abt_sqc h (fun r1 e1 => ih _ _ _ r1 e1) (fun j r' e2 => abt_T e2 (fun r2 e3 => abt_sqc e3 (fun r1 e1 => ih _ _ _ r1 e1) (fun j r' e2 => abt_T e2 (fun r2 e3 => abt_w ?_ e3))))
                      rcases e with e | e <;> (rw [e]; exact not_ab (by decide) (by decide) (by decide))
                  · split at h
                    · refine abt_T h (fun r1 e1 => abt_T e1 (fun r2 e2 => ?_))
                      cases e2
                      intro z hz ha
                      rw [List.mem_singleton] at hz
                      exact ⟨i + 2, by simp, by rw [hz]⟩
                    · split at h
                      · split at h
                        · cases h
                          exact True.intro
                        · exact abt_sqc h (fun r1 e1 => ih _ _ _ r1 e1) (fun j r' e2 => abt_T e2 (fun r2 e3 => abt_w (nb (by simp)) e3))
                      · split at h
                        · cases h
                          intro z hz ha
                          rw [List.mem_singleton] at hz
                          exact absurd (hz ▸ ha) (nb (by simp))
                        · split at h
                          · next e =>
                            cases h
                            intro z hz ha
                            rw [List.mem_singleton] at hz
                            exact absurd (hz ▸ ha) (not_abn (by omega) (by omega) (by omega) (by omega))
                          · cases h
                            exact True.intro
            · split at h
              · exact abt_sqc h (fun r1 e1 => ih _ _ _ r1 e1) (fun j r' e2 => ih _ _ _ r' e2)
              · split at h
                · unfold pTesR at h
                  split at h
                  · exact abt_sqc h (fun r1 e1 => abt_sqc e1 (fun r2 e2 => ih _ _ _ r2 e2) (fun j r' e2 => abt_w (nb (by simp)) e2)) (fun j r' e2 => ih _ _ _ r' e2)
                  · cases h
                    exact abt_nil
                · split at h
                  · exact abt_sqc h (fun r1 e1 => ih _ _ _ r1 e1) (fun j r' e2 => ih _ _ _ r' e2)
                  · split at h
                    · unfold pBotR at h
                      split at h
                      · exact abt_sqc h (fun r1 e1 => abt_sqc e1 (fun r2 e2 => ih _ _ _ r2 e2) (fun j r' e2 => abt_w (nb (by simp)) e2)) (fun j r' e2 => ih _ _ _ r' e2)
                      · cases h
                        exact abt_nil
                    · unfold pSin at h
                      split at h
                      · split at h
                        · cases h
                          exact True.intro
                        · exact abt_sqc h (fun r1 e1 => ih _ _ _ r1 e1) (fun j r' e2 => abt_w (nb (by simp)) e2)
                      · split at h
                        · split at h
                          · cases h
                            exact True.intro
                          · exact abt_sqc h (fun r1 e1 => ih _ _ _ r1 e1) (fun j r' e2 => abt_T e2 (fun r2 e3 => by cases e3; exact abt_nil))
                        · split at h
                          · refine abt_T h (fun r1 e1 => ?_)
                            cases e1
                            intro z hz ha
                            rw [List.mem_singleton] at hz
                            exact ⟨i + 1, by simp, by rw [hz]⟩
                          · split at h
                            · exact abt_sqc h (fun r1 e1 => ih _ _ _ r1 e1) (fun j r' e2 => abt_w (nb (by simp)) e2)
                            · refine abt_sqc h (fun r1 e1 => ih _ _ _ r1 e1) (fun j r' e3 => ?_)
                              split at e3
                              · cases e3
                                exact True.intro
                              · next o ho =>
                                exact abt_sqc e3 (fun r1 e1 => ih _ _ _ r1 e1) (fun j r' e2 => abt_w (sgO_ab ho) e2)
end ABT
