/-! THE PLAIN LAW: names come in the order of their tokens -/
def srt (r : PR) : Prop := match r with
  | .inl (_, _, ks) => ks.Pairwise (· < ·)
  | .inr _ => True
section SRT
variable {κ : Nat → Nat} {vl : Nat → Int32} {N : Nat}
theorem srt_add {i j : Nat} {w : List (Int32 × Int32)} {ks : List Nat} {r : PR} (h1 : okE κ N 0 i (.inl (j, w, ks))) (s1 : ks.Pairwise (· < ·)) (h2 : okE κ N 0 j r) (s2 : srt r) : srt (addR w ks r) := by
  cases r with
  | inr j' => exact True.intro
  | inl t =>
    obtain ⟨j', w', ks'⟩ := t
    show (ks ++ ks').Pairwise (· < ·)
    rw [List.pairwise_append]
    refine ⟨s1, s2, fun a ha c hc => ?_⟩
    have := h1.2.2.2 a ha
    have := h2.2.2.2 c hc
    omega
theorem srt_sqc {a : Option PR} {k : Nat → Option PR} {i : Nat} {r : PR} (h : sqc a k = some r) (ha : ∀ r1, a = some r1 → srt r1 ∧ okE κ N 0 i r1) (hk : ∀ j w ks r', j ≤ N → a = some (.inl (j, w, ks)) → k j = some r' → srt r' ∧ okE κ N 0 j r') : srt r := by
  rcases sqc_some h with ⟨j, e1, rfl⟩ | ⟨j, w, ks, r', e1, e2, rfl⟩
  · exact True.intro
  · obtain ⟨s1, o1⟩ := ha _ e1
    obtain ⟨s2, o2⟩ := hk j w ks r' o1.2.1 e1 e2
    exact srt_add o1 s1 o2 s2
theorem srt_w {j : Nat} {z : Int32 × Int32} {r : PR} (h : prW z j = some r) : srt r := by
  unfold prW at h
  cases h
  exact List.Pairwise.nil
/-- a row behind: sorted as what is ahead -/
theorem srt_row {a : Option PR} {z : Int32 × Int32} {r : PR} (h : sqc a (prW z) = some r) (ha : ∀ r1, a = some r1 → srt r1) : srt r := by
  rcases sqc_some h with ⟨j, e1, rfl⟩ | ⟨j, w, ks, r', e1, e2, rfl⟩
  · exact True.intro
  · unfold prW at e2
    cases e2
    show (ks ++ []).Pairwise (· < ·)
    rw [List.append_nil]
    exact ha _ e1
theorem srt_clo {a : Option PR} {c : Nat} {r : PR} (h : sqc a (fun j => prT κ c j (some (.inl (j + 1, [], [])))) = some r) (ha : ∀ r1, a = some r1 → srt r1) : srt r := by
  rcases sqc_some h with ⟨j, e1, rfl⟩ | ⟨j, w, ks, r', e1, e2, rfl⟩
  · exact True.intro
  · rcases prT_some e2 with ⟨e3, e4⟩ | ⟨e3, rfl⟩
    · cases e4
      show (ks ++ []).Pairwise (· < ·)
      rw [List.append_nil]
      exact ha _ e1
    · exact True.intro
theorem srt_cloW {a : Option PR} {c : Nat} {z : Int32 × Int32} {r : PR} (h : sqc a (fun j => prT κ c j (prW z (j + 1))) = some r) (ha : ∀ r1, a = some r1 → srt r1) : srt r := by
  rcases sqc_some h with ⟨j, e1, rfl⟩ | ⟨j, w, ks, r', e1, e2, rfl⟩
  · exact True.intro
  · rcases prT_some e2 with ⟨e3, e4⟩ | ⟨e3, rfl⟩
    · unfold prW at e4
      cases e4
      show (ks ++ []).Pairwise (· < ·)
      rw [List.append_nil]
      exact ha _ e1
    · exact True.intro
theorem pE_srt (hN : tkN κ N) : ∀ n c i d r, i ≤ N → pE κ vl n c i d = some r → srt r := by
  intro n
  induction n with
  | zero => intro c i d r _ h; cases h
  | succ n ih =>
    intro c i d r hi h
    have so : ∀ c i d r, i ≤ N → pE κ vl n c i d = some r → srt r ∧ okE κ N 0 i r := fun c i d r hi h => ⟨ih c i d r hi h, okE_mono (pE_ok hN n c i d r hi h) (by omega) (by omega)⟩
    have chain : ∀ {c c' i d : Nat} {z : Int32 × Int32} {r : PR}, i + 1 ≤ N → sqc (sqc (pE κ vl n c (i + 1) d) (prW z)) (fun j => pE κ vl n c' j d) = some r → mainC c = 1 → srt r := by
      intro c c' i d z r hi h hc
      refine srt_sqc (κ := κ) (N := N) (i := i) h (fun r1 e1 => ⟨srt_row e1 (fun r2 e2 => ih _ _ _ r2 hi e2), ?_⟩) (fun j w ks r' hj _ e2 => so _ _ _ r' hj e2)
      rcases sqc_some e1 with ⟨j, e3, rfl⟩ | ⟨j, w, ks, r', e3, e4, rfl⟩
      · have := pE_ok hN n _ _ _ _ hi e3
        exact ⟨by have := this.1; omega, this.2⟩
      · unfold prW at e4
        cases e4
        have := pE_ok hN n _ _ _ _ hi e3
        exact okE_w (okE_mono this (by omega) (by omega)) (by omega)
    have nil0 : ∀ i, srt (.inl (i, [], []) : PR) := fun i => List.Pairwise.nil
    replace h : pB κ vl (pE κ vl n) c i d = some r := h
    unfold pB at h
    split at h
    · exact srt_sqc h (fun r1 e1 => so _ _ _ r1 hi e1) (fun j w ks r' hj _ e2 => so _ _ _ r' hj e2)
    · split at h
      · unfold pSumR at h
        split at h
        · next e =>
          have s1 : i + 1 ≤ N := e.elim (fun e => tk_suc hN hi e (by decide) (by decide)) (fun e => tk_suc hN hi e (by decide) (by decide))
          exact chain s1 h rfl
        · cases h
          exact nil0 _
      · split at h
        · exact srt_sqc h (fun r1 e1 => so _ _ _ r1 hi e1) (fun j w ks r' hj _ e2 => so _ _ _ r' hj e2)
        · split at h
          · unfold pProR at h
            split at h
            · next e =>
              have s1 : i + 1 ≤ N := e.elim (fun e => tk_suc hN hi e (by decide) (by decide)) (fun e => tk_suc hN hi e (by decide) (by decide))
              exact chain s1 h rfl
            · cases h
              exact nil0 _
          · split at h
            · unfold pVal at h
              split at h
              · next e =>
                have s1 := tk_suc hN hi e (by decide) (by decide)
                split at h
                · cases h
                  exact True.intro
                · exact srt_row h (fun r1 e1 => ih _ _ _ r1 s1 e1)
              · split at h
                · next e =>
                  have s1 := tk_suc hN hi e (by decide) (by decide)
                  split at h
                  · cases h
                    exact True.intro
                  · exact srt_clo h (fun r1 e1 => ih _ _ _ r1 s1 e1)
                · split at h
                  · next e =>
                    have s1 : i + 1 ≤ N := e.elim (fun e => tk_suc hN hi e (by decide) (by decide)) (fun e => tk_suc hN hi e (by decide) (by decide))
                    split at h
                    · cases h
                      exact True.intro
                    · next e2 =>
                      have e40 : κ (i + 1) = 40 := Decidable.byContradiction fun hc => e2 (Or.inr hc)
                      have s2 := tk_suc hN s1 e40 (by decide) (by decide)
                      refine srt_sqc h (fun r1 e1 => so _ _ _ r1 s2 e1) (fun j w ks r' hj _ e3 => ?_)
                      rcases prT_some e3 with ⟨e4, e5⟩ | ⟨e4, rfl⟩
                      · have s3 := tk_suc hN hj e4 (by decide) (by decide)
                        refine ⟨srt_cloW e5 (fun r1 e1 => ih _ _ _ r1 s3 e1), ?_⟩
                        rcases sqc_some e5 with ⟨j', e6, rfl⟩ | ⟨j', w', ks', r2, e6, e7, rfl⟩
                        · have := pE_ok hN n _ _ _ _ s3 e6
                          exact ⟨by have := this.1; omega, this.2⟩
                        · have o2 := pE_ok hN n _ _ _ _ s3 e6
                          rcases prT_some e7 with ⟨e8, e9⟩ | ⟨e8, rfl⟩
                          · have s4 := tk_suc hN o2.2.1 e8 (by decide) (by decide)
                            unfold prW at e9
                            cases e9
                            obtain ⟨b1, b2, b3, b4⟩ := o2
                            refine ⟨by omega, s4, ?_, fun k hk => ?_⟩
                            · rw [List.length_append]
                              show w'.length + 1 ≤ _
                              omega
                            · rw [List.append_nil] at hk
                              have := b4 k hk
                              exact ⟨by omega, by omega, this.2.2⟩
                          · exact ⟨by have := o2.1; omega, o2.2.1⟩
                      · exact ⟨True.intro, Nat.le_refl _, hj⟩
                  · split at h
                    · rcases prT_some h with ⟨e3, e4⟩ | ⟨e3, rfl⟩
                      · rcases prT_some e4 with ⟨e5, e6⟩ | ⟨e5, rfl⟩
                        · cases e6
                          exact List.pairwise_singleton _ _
                        · exact True.intro
                      · exact True.intro
                    · split at h
                      · next e =>
                        have s1 := tk_suc hN hi e (by decide) (by decide)
                        split at h
                        · cases h
                          exact True.intro
                        · next e2 =>
                          have e40 : κ (i + 1) = 40 := Decidable.byContradiction fun hc => e2 (Or.inr hc)
                          have s2 := tk_suc hN s1 e40 (by decide) (by decide)
                          exact srt_cloW h (fun r1 e1 => ih _ _ _ r1 s2 e1)
                      · split at h
                        · cases h
                          exact List.Pairwise.nil
                        · split at h
                          · cases h
                            exact List.Pairwise.nil
                          · cases h
                            exact True.intro
            · split at h
              · exact srt_sqc h (fun r1 e1 => so _ _ _ r1 hi e1) (fun j w ks r' hj _ e2 => so _ _ _ r' hj e2)
              · split at h
                · unfold pTesR at h
                  split at h
                  · next e =>
                    have s1 := tk_suc hN hi e (by decide) (by decide)
                    exact chain s1 h rfl
                  · cases h
                    exact nil0 _
                · split at h
                  · exact srt_sqc h (fun r1 e1 => so _ _ _ r1 hi e1) (fun j w ks r' hj _ e2 => so _ _ _ r' hj e2)
                  · split at h
                    · unfold pBotR at h
                      split at h
                      · next e =>
                        have s1 := tk_suc hN hi e (by decide) (by decide)
                        exact chain s1 h rfl
                      · cases h
                        exact nil0 _
                    · unfold pSin at h
                      split at h
                      · next e =>
                        have s1 := tk_suc hN hi e (by decide) (by decide)
                        split at h
                        · cases h
                          exact True.intro
                        · exact srt_row h (fun r1 e1 => ih _ _ _ r1 s1 e1)
                      · split at h
                        · next e =>
                          have s1 := tk_suc hN hi e (by decide) (by decide)
                          split at h
                          · cases h
                            exact True.intro
                          · exact srt_clo h (fun r1 e1 => ih _ _ _ r1 s1 e1)
                        · split at h
                          · rcases prT_some h with ⟨e3, e4⟩ | ⟨e3, rfl⟩
                            · cases e4
                              exact List.pairwise_singleton _ _
                            · exact True.intro
                          · split at h
                            · next e =>
                              have s1 := tk_suc hN hi e (by decide) (by decide)
                              exact srt_row h (fun r1 e1 => ih _ _ _ r1 s1 e1)
                            · refine srt_sqc h (fun r1 e1 => so _ _ _ r1 hi e1) (fun j w ks r' hj _ e3 => ?_)
                              split at e3
                              · cases e3
                                exact ⟨True.intro, Nat.le_refl _, hj⟩
                              · next o ho =>
                                have s3 := tk_suc hN hj rfl (sgO_ne ho).1 (sgO_ne ho).2
                                exact ⟨srt_row e3 (fun r1 e1 => ih _ _ _ r1 s3 e1), okE_mono (ok_row (fun r hr => (so _ _ _ r s3 hr).2) e3) (by omega) (by omega)⟩
theorem pOrd_srt (hN : tkN κ N) {i : Nat} {l : Ln} (hi : i + 1 ≤ N) (h : pOrd κ vl i = .inl l) : l.2.2.2.2.Pairwise (· < ·) := by
  have h1 := pX_ok (vl := vl) (c := 0) hN hi
  have s1 := pE_srt hN 7000 0 (i + 1) 0 _ hi (pX_eq (vl := vl) (c := 0) hN hi)
  unfold pOrd at h
  cases hx : pX κ vl 0 (i + 1) with
  | inr j =>
    rw [hx] at h
    cases h
  | inl t =>
    obtain ⟨j, w, ks⟩ := t
    rw [hx] at h h1 s1
    have h : (if κ j = 14 then (match pX κ vl 5 (j + 1) with
      | .inr j2 => .inr j2
      | .inl (j2, w2, ks2) => .inl (i, j2, w, w2, ks ++ ks2)) else .inl (i, j, w, [], ks) : Ln ⊕ Nat) = .inl l := h
    by_cases e : κ j = 14
    · rw [if_pos e] at h
      have s2 := tk_suc hN h1.2.1 e (by decide) (by decide)
      have h2 := pX_ok (vl := vl) (c := 5) hN s2
      have s3 := pE_srt hN 7000 5 (j + 1) 0 _ s2 (pX_eq (vl := vl) (c := 5) hN s2)
      cases hx2 : pX κ vl 5 (j + 1) with
      | inr j2 =>
        rw [hx2] at h
        cases h
      | inl t2 =>
        obtain ⟨j2, w2, ks2⟩ := t2
        rw [hx2] at h h2 s3
        cases h
        show (ks ++ ks2).Pairwise (· < ·)
        rw [List.pairwise_append]
        refine ⟨s1, s3, fun a ha c hc => ?_⟩
        have := h1.2.2.2 a ha
        have := h2.2.2.2 c hc
        omega
    · rw [if_neg e] at h
      cases h
      exact s1
end SRT
