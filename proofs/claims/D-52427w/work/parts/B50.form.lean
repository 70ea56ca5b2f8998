/-! THE PLAIN LAW: the form of sums and tests, pure (κ: kinds of tokens, vl: numbers). A result: the token behind, rows, names; or the token at which it fails -/
abbrev PR : Type := (Nat × List (Int32 × Int32) × List Nat) ⊕ Nat
def addR (w : List (Int32 × Int32)) (ks : List Nat) : PR → PR
  | .inl (j, w', ks') => .inl (j, w ++ w', ks ++ ks')
  | .inr j => .inr j
def sqc (a : Option PR) (k : Nat → Option PR) : Option PR := match a with
  | none => none
  | some (.inr j) => some (.inr j)
  | some (.inl (j, w, ks)) => (k j).map (addR w ks)
/-- a row more -/
def prW (r : Int32 × Int32) (j : Nat) : Option PR := some (.inl (j, [r], []))
/-- a token that must be there -/
def prT (κ : Nat → Nat) (c j : Nat) (k : Option PR) : Option PR := if κ j = c then k else some (.inr j)
def pSum (R : Nat → Nat → Nat → Option PR) (i d : Nat) : Option PR := sqc (R 2 i d) fun j => R 1 j d
def pSumR (κ : Nat → Nat) (R : Nat → Nat → Nat → Option PR) (i d : Nat) : Option PR := if κ i = 43 ∨ κ i = 45 then sqc (sqc (R 2 (i + 1) d) (prW (if κ i = 43 then 101 else 102, 0))) fun j => R 1 j d else some (.inl (i, [], []))
def pPro (R : Nat → Nat → Nat → Option PR) (i d : Nat) : Option PR := sqc (R 4 i d) fun j => R 3 j d
def pProR (κ : Nat → Nat) (R : Nat → Nat → Nat → Option PR) (i d : Nat) : Option PR := if κ i = 42 ∨ κ i = 47 then sqc (sqc (R 4 (i + 1) d) (prW (if κ i = 42 then 103 else 104, 0))) fun j => R 3 j d else some (.inl (i, [], []))
def pVal (κ : Nat → Nat) (vl : Nat → Int32) (R : Nat → Nat → Nat → Option PR) (i d : Nat) : Option PR :=
  if κ i = 45 then (if d = 8 then some (.inr i) else sqc (R 4 (i + 1) (d + 1)) (prW (105, 0)))
  else if κ i = 40 then (if d = 8 then some (.inr i) else sqc (R 0 (i + 1) (d + 1)) fun j => prT κ 41 j (some (.inl (j + 1, [], []))))
  else if κ i = 27 ∨ κ i = 28 then (if d = 8 ∨ κ (i + 1) ≠ 40 then some (.inr (i + 1)) else sqc (R 0 (i + 2) (d + 1)) fun j => prT κ 44 j (sqc (R 0 (j + 1) (d + 1)) fun j => prT κ 41 j (prW (n3 (κ i), 0) (j + 1))))
  else if κ i = 19 ∨ κ i = 20 then prT κ 10 (i + 1) (prT κ 30 (i + 2) (some (.inl (i + 3, [(n3 (κ i), n3 (i + 2))], [i + 2]))))
  else if κ i = 21 then (if d = 8 ∨ κ (i + 1) ≠ 40 then some (.inr (i + 1)) else sqc (R 0 (i + 2) (d + 1)) fun j => prT κ 41 j (prW (21, 0) (j + 1)))
  else if κ i = 31 then some (.inl (i + 1, [(100, vl i)], []))
  else if 15 ≤ κ i ∧ κ i ≤ 18 then some (.inl (i + 1, [(n3 (κ i), 0)], []))
  else some (.inr i)
def pTes (R : Nat → Nat → Nat → Option PR) (i d : Nat) : Option PR := sqc (R 7 i d) fun j => R 6 j d
def pTesR (κ : Nat → Nat) (R : Nat → Nat → Nat → Option PR) (i d : Nat) : Option PR := if κ i = 26 then sqc (sqc (R 7 (i + 1) d) (prW (26, 0))) fun j => R 6 j d else some (.inl (i, [], []))
def pBot (R : Nat → Nat → Nat → Option PR) (i d : Nat) : Option PR := sqc (R 9 i d) fun j => R 8 j d
def pBotR (κ : Nat → Nat) (R : Nat → Nat → Nat → Option PR) (i d : Nat) : Option PR := if κ i = 25 then sqc (sqc (R 9 (i + 1) d) (prW (25, 0))) fun j => R 8 j d else some (.inl (i, [], []))
/-- what a sign compares -/
def sgO (c : Nat) : Option Int32 := if c = 60 then some 106 else if c = 62 then some 107 else if c = 61 then some 108 else if c = 316 then some 109 else if c = 318 then some 110 else none
def pSin (κ : Nat → Nat) (R : Nat → Nat → Nat → Option PR) (i d : Nat) : Option PR :=
  if κ i = 24 then (if d = 8 then some (.inr i) else sqc (R 9 (i + 1) (d + 1)) (prW (24, 0)))
  else if κ i = 91 then (if d = 8 then some (.inr i) else sqc (R 5 (i + 1) (d + 1)) fun j => prT κ 93 j (some (.inl (j + 1, [], []))))
  else if κ i = 22 then prT κ 30 (i + 1) (some (.inl (i + 2, [(22, n3 (i + 1))], [i + 1])))
  else if κ i = 23 then sqc (R 0 (i + 1) d) (prW (23, 0))
  else sqc (R 0 i d) fun j => match sgO (κ j) with
    | none => some (.inr j)
    | some o => sqc (R 0 (j + 1) d) (prW (o, 0))
def pB (κ : Nat → Nat) (vl : Nat → Int32) (R : Nat → Nat → Nat → Option PR) (c i d : Nat) : Option PR :=
  if c = 0 then pSum R i d else if c = 1 then pSumR κ R i d else if c = 2 then pPro R i d else if c = 3 then pProR κ R i d else if c = 4 then pVal κ vl R i d else if c = 5 then pTes R i d else if c = 6 then pTesR κ R i d else if c = 7 then pBot R i d else if c = 8 then pBotR κ R i d else pSin κ R i d
def pE (κ : Nat → Nat) (vl : Nat → Int32) : Nat → Nat → Nat → Nat → Option PR
  | 0 => fun _ _ _ => none
  | n + 1 => pB κ vl (pE κ vl n)
theorem sqc_some {a : Option PR} {k : Nat → Option PR} {r : PR} (h : sqc a k = some r) : (∃ j, a = some (.inr j) ∧ r = .inr j) ∨ ∃ j w ks r', a = some (.inl (j, w, ks)) ∧ k j = some r' ∧ r = addR w ks r' := by
  unfold sqc at h
  split at h
  · cases h
  · next j =>
    cases h
    exact Or.inl ⟨j, rfl, rfl⟩
  · next j w ks =>
    cases hk : k j with
    | none =>
      rw [hk] at h
      cases h
    | some r' =>
      rw [hk] at h
      cases h
      exact Or.inr ⟨j, w, ks, r', rfl, hk, rfl⟩
theorem sqc_is {a : Option PR} {k : Nat → Option PR} (h1 : ∃ r, a = some r) (h2 : ∀ j w ks, a = some (.inl (j, w, ks)) → ∃ r, k j = some r) : ∃ r, sqc a k = some r := by
  obtain ⟨r, hr⟩ := h1
  cases r with
  | inr j =>
    refine ⟨.inr j, ?_⟩
    unfold sqc
    rw [hr]
  | inl p =>
    obtain ⟨j, w, ks⟩ := p
    obtain ⟨r', h3⟩ := h2 j w ks hr
    refine ⟨addR w ks r', ?_⟩
    unfold sqc
    rw [hr]
    show (k j).map (addR w ks) = _
    rw [h3]
    rfl
/-- positions of a result; b = 1: at least a token is taken -/
def okE (κ : Nat → Nat) (N b i : Nat) (r : PR) : Prop := match r with
  | .inl (j, w, ks) => i + b ≤ j ∧ j ≤ N ∧ w.length ≤ j - i ∧ ∀ k, k ∈ ks → i ≤ k ∧ k < j ∧ κ k = 30
  | .inr j => i ≤ j ∧ j ≤ N
section PF
variable {κ : Nat → Nat} {vl : Nat → Int32} {N : Nat}
theorem okE_mono {b b' i i' : Nat} {r : PR} (h : okE κ N b i r) (hi : i' + b' ≤ i + b) (hi2 : i' ≤ i) : okE κ N b' i' r := by
  cases r with
  | inr j => exact ⟨Nat.le_trans hi2 h.1, h.2⟩
  | inl p =>
    obtain ⟨j, w, ks⟩ := p
    obtain ⟨h1, h2, h3, h4⟩ := h
    exact ⟨by omega, h2, by omega, fun k hk => ⟨by have := (h4 k hk).1; omega, (h4 k hk).2⟩⟩
theorem okE_add {i j bb : Nat} {w : List (Int32 × Int32)} {ks : List Nat} {r : PR} (h : okE κ N 0 i (.inl (j, w, ks))) (h' : okE κ N bb j r) (b : Nat) (hb : i + b ≤ j + bb) : okE κ N b i (addR w ks r) := by
  obtain ⟨h1, h2, h3, h4⟩ := h
  cases r with
  | inr j' => exact ⟨Nat.le_trans h1 h'.1, h'.2⟩
  | inl p =>
    obtain ⟨j', w', ks'⟩ := p
    obtain ⟨g1, g2, g3, g4⟩ := h'
    refine ⟨by omega, g2, ?_, fun k hk => ?_⟩
    · rw [List.length_append]
      omega
    · rw [List.mem_append] at hk
      rcases hk with hk | hk
      · have := h4 k hk
        exact ⟨this.1, by omega, this.2.2⟩
      · have := g4 k hk
        exact ⟨by omega, this.2.1, this.2.2⟩
/-- tokens: N is the last -/
def tkN (κ : Nat → Nat) (N : Nat) : Prop := N ≤ 400 ∧ (κ N = 32 ∨ κ N = 33)
theorem tk_suc {i c : Nat} (hN : tkN κ N) (hi : i ≤ N) (h : κ i = c) (h1 : c ≠ 32) (h2 : c ≠ 33) : i + 1 ≤ N := by
  by_cases e : i = N
  · subst e
    rcases hN.2 with h3 | h3
    · exact absurd (h.symm.trans h3) h1
    · exact absurd (h.symm.trans h3) h2
  · omega
/-- one more row behind at least one token more than rows -/
theorem okE_w {i j b : Nat} {w : List (Int32 × Int32)} {ks : List Nat} {z : Int32 × Int32} (h : okE κ N 0 (i + 1) (.inl (j, w, ks))) (hb : b ≤ 1) : okE κ N b i (addR w ks (.inl (j, [z], []))) := by
  obtain ⟨h1, h2, h3, h4⟩ := h
  refine ⟨by omega, h2, ?_, fun k hk => ?_⟩
  · rw [List.length_append]
    show w.length + 1 ≤ _
    omega
  · rw [List.append_nil] at hk
    have := h4 k hk
    exact ⟨by omega, this.2⟩
theorem prT_some {c j : Nat} {k : Option PR} {r : PR} (h : prT κ c j k = some r) : (κ j = c ∧ k = some r) ∨ (κ j ≠ c ∧ r = .inr j) := by
  unfold prT at h
  split at h
  · next e => exact Or.inl ⟨e, h⟩
  · next e =>
    cases h
    exact Or.inr ⟨e, rfl⟩
/-- the codes that take at least a token -/
def mainC (c : Nat) : Nat := if c = 1 ∨ c = 3 ∨ c = 6 ∨ c = 8 then 0 else 1
/-- chains: as rows behind tokens -/
theorem ok_chain {R : Nat → Nat → Nat → Option PR} {i d c c' : Nat} {z : Int32 × Int32} {r : PR} (hi : i + 1 ≤ N) (h1 : ∀ r, R c (i + 1) d = some r → okE κ N 1 (i + 1) r) (h2 : ∀ j r, j ≤ N → R c' j d = some r → okE κ N 0 j r) (h : sqc (sqc (R c (i + 1) d) (prW z)) (fun j => R c' j d) = some r) : okE κ N 0 i r := by
  rcases sqc_some h with ⟨j, e1, rfl⟩ | ⟨j, w, ks, r', e1, e2, rfl⟩
  · rcases sqc_some e1 with ⟨j', e3, e4⟩ | ⟨j', w', ks', r2, e3, e4, e5⟩
    · cases e4
      exact okE_mono (h1 _ e3) (by omega) (by omega)
    · unfold prW at e4
      cases e4
      cases e5
  · rcases sqc_some e1 with ⟨j', e3, e4⟩ | ⟨j', w', ks', r2, e3, e4, e5⟩
    · cases e4
    · unfold prW at e4
      cases e4
      have o1 := h1 _ e3
      have o2 : okE κ N 0 i (.inl (j, w, ks)) := by
        rw [e5]
        exact okE_w (okE_mono o1 (by omega) (by omega)) (by omega)
      exact okE_add o2 (h2 j r' o2.2.1 e2) 0 (by have := o2.1; omega)
theorem ok_seq {R : Nat → Nat → Nat → Option PR} {i d c c' : Nat} {r : PR} (h1 : ∀ r, R c i d = some r → okE κ N 1 i r) (h2 : ∀ j r, j ≤ N → R c' j d = some r → okE κ N 0 j r) (h : sqc (R c i d) (fun j => R c' j d) = some r) : okE κ N 1 i r := by
  rcases sqc_some h with ⟨j, e1, rfl⟩ | ⟨j, w, ks, r', e1, e2, rfl⟩
  · exact okE_mono (h1 _ e1) (by omega) (by omega)
  · have o1 := h1 _ e1
    exact okE_add (okE_mono o1 (by omega) (by omega)) (h2 j r' o1.2.1 e2) 1 (by have := o1.1; omega)
/-- something, then a row -/
theorem ok_row {a : Option PR} {i : Nat} {z : Int32 × Int32} {r : PR} (h1 : ∀ r, a = some r → okE κ N 0 (i + 1) r) (h : sqc a (prW z) = some r) : okE κ N 1 i r := by
  rcases sqc_some h with ⟨j, e1, rfl⟩ | ⟨j, w, ks, r', e1, e2, rfl⟩
  · exact okE_mono (h1 _ e1) (by omega) (by omega)
  · unfold prW at e2
    cases e2
    exact okE_w (h1 _ e1) (by omega)
/-- something in brackets -/
theorem ok_clo {a : Option PR} {i c : Nat} {r : PR} (hN : tkN κ N) (c1 : c ≠ 32) (c2 : c ≠ 33) (h1 : ∀ r, a = some r → okE κ N 0 (i + 1) r) (h : sqc a (fun j => prT κ c j (some (.inl (j + 1, [], [])))) = some r) : okE κ N 1 i r := by
  rcases sqc_some h with ⟨j, e1, rfl⟩ | ⟨j, w, ks, r', e1, e2, rfl⟩
  · exact okE_mono (h1 _ e1) (by omega) (by omega)
  · have o1 := h1 _ e1
    rcases prT_some e2 with ⟨e3, e4⟩ | ⟨e3, rfl⟩
    · cases e4
      have o2 : okE κ N 1 j (.inl (j + 1, [], [])) := ⟨Nat.le_refl _, tk_suc hN o1.2.1 e3 c1 c2, Nat.zero_le _, fun k hk => by cases hk⟩
      exact okE_add (okE_mono o1 (by omega) (by omega)) o2 1 (by have := o1.1; omega)
    · exact ⟨by have := o1.1; omega, o1.2.1⟩
theorem pVal_ok {R : Nat → Nat → Nat → Option PR} {i d : Nat} {r : PR} (hN : tkN κ N) (hR : ∀ c i d r, i ≤ N → R c i d = some r → okE κ N (mainC c) i r) (hi : i ≤ N) (h : pVal κ vl R i d = some r) : okE κ N 1 i r := by
  have h0 : ∀ c i d r, i ≤ N → R c i d = some r → okE κ N 0 i r := fun c i d r hi h => okE_mono (hR c i d r hi h) (by omega) (by omega)
  unfold pVal at h
  split at h
  · next e =>
    have s1 := tk_suc hN hi e (by decide) (by decide)
    split at h
    · cases h
      exact ⟨Nat.le_refl _, hi⟩
    · exact ok_row (fun r hr => h0 _ _ _ r s1 hr) h
  · split at h
    · next e =>
      have s1 := tk_suc hN hi e (by decide) (by decide)
      split at h
      · cases h
        exact ⟨Nat.le_refl _, hi⟩
      · exact ok_clo hN (by decide) (by decide) (fun r hr => h0 _ _ _ r s1 hr) h
    · split at h
      · next e =>
        have s1 : i + 1 ≤ N := e.elim (fun e => tk_suc hN hi e (by decide) (by decide)) (fun e => tk_suc hN hi e (by decide) (by decide))
        split at h
        · cases h
          exact ⟨by omega, s1⟩
        · next e2 =>
          have e40 : κ (i + 1) = 40 := Decidable.byContradiction fun hc => e2 (Or.inr hc)
          have s2 := tk_suc hN s1 e40 (by decide) (by decide)
          rcases sqc_some h with ⟨j, e1, rfl⟩ | ⟨j, w, ks, r', e1, e3, rfl⟩
          · have := h0 _ _ _ _ s2 e1
            exact ⟨by have := this.1; omega, this.2⟩
          · have o1 := h0 _ _ _ _ s2 e1
            rcases prT_some e3 with ⟨e4, e5⟩ | ⟨e4, rfl⟩
            · have s3 := tk_suc hN o1.2.1 e4 (by decide) (by decide)
              rcases sqc_some e5 with ⟨j', e6, rfl⟩ | ⟨j', w', ks', r2, e6, e7, rfl⟩
              · have := h0 _ _ _ _ s3 e6
                exact ⟨by have := this.1; have := o1.1; omega, this.2⟩
              · have o2 := h0 _ _ _ _ s3 e6
                rcases prT_some e7 with ⟨e8, e9⟩ | ⟨e8, rfl⟩
                · have s4 := tk_suc hN o2.2.1 e8 (by decide) (by decide)
                  unfold prW at e9
                  cases e9
                  obtain ⟨a1, a2, a3, a4⟩ := o1
                  obtain ⟨b1, b2, b3, b4⟩ := o2
                  refine ⟨by omega, s4, ?_, fun k hk => ?_⟩
                  · rw [List.length_append, List.length_append]
                    show w.length + (w'.length + 1) ≤ _
                    omega
                  · rw [List.append_nil, List.mem_append] at hk
                    rcases hk with hk | hk
                    · have := a4 k hk
                      exact ⟨by omega, by omega, this.2.2⟩
                    · have := b4 k hk
                      exact ⟨by omega, by omega, this.2.2⟩
                · exact ⟨by have := o1.1; have := o2.1; omega, o2.2.1⟩
            · exact ⟨by have := o1.1; omega, o1.2.1⟩
      · split at h
        · next e =>
          have s1 : i + 1 ≤ N := e.elim (fun e => tk_suc hN hi e (by decide) (by decide)) (fun e => tk_suc hN hi e (by decide) (by decide))
          rcases prT_some h with ⟨e3, e4⟩ | ⟨e3, rfl⟩
          · have s2 := tk_suc hN s1 e3 (by decide) (by decide)
            rcases prT_some e4 with ⟨e5, e6⟩ | ⟨e5, rfl⟩
            · have s3 := tk_suc hN s2 e5 (by decide) (by decide)
              cases e6
              refine ⟨by omega, s3, ?_, fun k hk => ?_⟩
              · show 1 ≤ _
                omega
              · rw [List.mem_singleton] at hk
                exact ⟨by omega, by omega, hk ▸ e5⟩
            · exact ⟨by omega, s2⟩
          · exact ⟨by omega, s1⟩
        · split at h
          · next e =>
            have s1 := tk_suc hN hi e (by decide) (by decide)
            split at h
            · cases h
              exact ⟨by omega, s1⟩
            · next e2 =>
              have e40 : κ (i + 1) = 40 := Decidable.byContradiction fun hc => e2 (Or.inr hc)
              have s2 := tk_suc hN s1 e40 (by decide) (by decide)
              rcases sqc_some h with ⟨j, e1, rfl⟩ | ⟨j, w, ks, r', e1, e3, rfl⟩
              · have := h0 _ _ _ _ s2 e1
                exact ⟨by have := this.1; omega, this.2⟩
              · have o1 := h0 _ _ _ _ s2 e1
                rcases prT_some e3 with ⟨e4, e5⟩ | ⟨e4, rfl⟩
                · have s3 := tk_suc hN o1.2.1 e4 (by decide) (by decide)
                  unfold prW at e5
                  cases e5
                  obtain ⟨a1, a2, a3, a4⟩ := o1
                  refine ⟨by omega, s3, ?_, fun k hk => ?_⟩
                  · rw [List.length_append]
                    show w.length + 1 ≤ _
                    omega
                  · rw [List.append_nil] at hk
                    have := a4 k hk
                    exact ⟨by omega, by omega, this.2.2⟩
                · exact ⟨by have := o1.1; omega, o1.2.1⟩
          · split at h
            · next e =>
              have s1 := tk_suc hN hi e (by decide) (by decide)
              cases h
              exact ⟨by omega, s1, by show 1 ≤ _; omega, fun k hk => by cases hk⟩
            · split at h
              · next e =>
                have s1 := tk_suc hN hi rfl (by omega) (by omega)
                cases h
                exact ⟨by omega, s1, by show 1 ≤ _; omega, fun k hk => by cases hk⟩
              · cases h
                exact ⟨Nat.le_refl _, hi⟩
theorem sgO_ne {c : Nat} {o : Int32} (h : sgO c = some o) : c ≠ 32 ∧ c ≠ 33 := by
  constructor
  · intro e
    subst e
    cases h
  · intro e
    subst e
    cases h
theorem pSin_ok {R : Nat → Nat → Nat → Option PR} {i d : Nat} {r : PR} (hN : tkN κ N) (hR : ∀ c i d r, i ≤ N → R c i d = some r → okE κ N (mainC c) i r) (hi : i ≤ N) (h : pSin κ R i d = some r) : okE κ N 1 i r := by
  have h0 : ∀ c i d r, i ≤ N → R c i d = some r → okE κ N 0 i r := fun c i d r hi h => okE_mono (hR c i d r hi h) (by omega) (by omega)
  unfold pSin at h
  split at h
  · next e =>
    have s1 := tk_suc hN hi e (by decide) (by decide)
    split at h
    · cases h
      exact ⟨Nat.le_refl _, hi⟩
    · exact ok_row (fun r hr => h0 _ _ _ r s1 hr) h
  · split at h
    · next e =>
      have s1 := tk_suc hN hi e (by decide) (by decide)
      split at h
      · cases h
        exact ⟨Nat.le_refl _, hi⟩
      · exact ok_clo hN (by decide) (by decide) (fun r hr => h0 _ _ _ r s1 hr) h
    · split at h
      · next e =>
        have s1 := tk_suc hN hi e (by decide) (by decide)
        rcases prT_some h with ⟨e3, e4⟩ | ⟨e3, rfl⟩
        · have s2 := tk_suc hN s1 e3 (by decide) (by decide)
          cases e4
          refine ⟨by omega, s2, by show 1 ≤ _; omega, fun k hk => ?_⟩
          rw [List.mem_singleton] at hk
          exact ⟨by omega, by omega, hk ▸ e3⟩
        · exact ⟨by omega, s1⟩
      · split at h
        · next e =>
          have s1 := tk_suc hN hi e (by decide) (by decide)
          exact ok_row (fun r hr => h0 _ _ _ r s1 hr) h
        · rcases sqc_some h with ⟨j, e1, rfl⟩ | ⟨j, w, ks, r', e1, e3, rfl⟩
          · exact h0 _ _ _ _ hi e1
          · have o1 := h0 _ _ _ _ hi e1
            split at e3
            · cases e3
              exact ⟨o1.1, o1.2.1⟩
            · next o ho =>
              have s3 := tk_suc hN o1.2.1 rfl (sgO_ne ho).1 (sgO_ne ho).2
              have o2 : okE κ N 1 j r' := ok_row (fun r hr => h0 _ _ _ r s3 hr) e3
              exact okE_add o1 o2 1 (by have := o1.1; omega)
theorem pE_ok (hN : tkN κ N) : ∀ n c i d r, i ≤ N → pE κ vl n c i d = some r → okE κ N (mainC c) i r := by
  intro n
  induction n with
  | zero => intro c i d r _ h; cases h
  | succ n ih =>
    intro c i d r hi h
    have h0 : ∀ c i d r, i ≤ N → pE κ vl n c i d = some r → okE κ N 0 i r := fun c i d r hi h => okE_mono (ih c i d r hi h) (by omega) (by omega)
    replace h : pB κ vl (pE κ vl n) c i d = some r := h
    unfold pB at h
    split at h
    · next e =>
      subst e
      exact ok_seq (fun r hr => ih 2 i d r hi hr) (fun j r hj hr => h0 _ _ _ r hj hr) h
    · split at h
      · next e =>
        subst e
        unfold pSumR at h
        split at h
        · next e =>
          have s1 : i + 1 ≤ N := e.elim (fun e => tk_suc hN hi e (by decide) (by decide)) (fun e => tk_suc hN hi e (by decide) (by decide))
          exact ok_chain s1 (fun r hr => ih 2 _ d r s1 hr) (fun j r hj hr => h0 _ _ _ r hj hr) h
        · cases h
          exact ⟨Nat.le_refl _, hi, Nat.zero_le _, fun k hk => by cases hk⟩
      · split at h
        · next e =>
          subst e
          exact ok_seq (fun r hr => ih 4 i d r hi hr) (fun j r hj hr => h0 _ _ _ r hj hr) h
        · split at h
          · next e =>
            subst e
            unfold pProR at h
            split at h
            · next e =>
              have s1 : i + 1 ≤ N := e.elim (fun e => tk_suc hN hi e (by decide) (by decide)) (fun e => tk_suc hN hi e (by decide) (by decide))
              exact ok_chain s1 (fun r hr => ih 4 _ d r s1 hr) (fun j r hj hr => h0 _ _ _ r hj hr) h
            · cases h
              exact ⟨Nat.le_refl _, hi, Nat.zero_le _, fun k hk => by cases hk⟩
          · split at h
            · next e =>
              subst e
              exact pVal_ok hN ih hi h
            · split at h
              · next e =>
                subst e
                exact ok_seq (fun r hr => ih 7 i d r hi hr) (fun j r hj hr => h0 _ _ _ r hj hr) h
              · split at h
                · next e =>
                  subst e
                  unfold pTesR at h
                  split at h
                  · next e =>
                    have s1 := tk_suc hN hi e (by decide) (by decide)
                    exact ok_chain s1 (fun r hr => ih 7 _ d r s1 hr) (fun j r hj hr => h0 _ _ _ r hj hr) h
                  · cases h
                    exact ⟨Nat.le_refl _, hi, Nat.zero_le _, fun k hk => by cases hk⟩
                · split at h
                  · next e =>
                    subst e
                    exact ok_seq (fun r hr => ih 9 i d r hi hr) (fun j r hj hr => h0 _ _ _ r hj hr) h
                  · split at h
                    · next e =>
                      subst e
                      unfold pBotR at h
                      split at h
                      · next e =>
                        have s1 := tk_suc hN hi e (by decide) (by decide)
                        exact ok_chain s1 (fun r hr => ih 9 _ d r s1 hr) (fun j r hj hr => h0 _ _ _ r hj hr) h
                      · cases h
                        exact ⟨Nat.le_refl _, hi, Nat.zero_le _, fun k hk => by cases hk⟩
                    · have : mainC c ≤ 1 := by
                        unfold mainC
                        split <;> omega
                      exact okE_mono (pSin_ok hN ih hi h) (by omega) (by omega)
/-- enough fuel -/
def rkC (c : Nat) : Nat := if c = 4 then 1 else if c = 2 then 2 else if c = 0 then 3 else if c = 1 ∨ c = 3 ∨ c = 6 ∨ c = 8 then 0 else if c = 7 then 5 else if c = 5 then 6 else 4
theorem prT_is {c j : Nat} {k : Option PR} (h : κ j = c → ∃ r, k = some r) : ∃ r, prT κ c j k = some r := by
  unfold prT
  split
  · next e => exact h e
  · exact ⟨_, rfl⟩
theorem rkC_le (c : Nat) : rkC c ≤ 6 := by
  unfold rkC
  repeat' split
  all_goals omega
theorem pE_tot (hN : tkN κ N) : ∀ n c i d, i ≤ N → 16 * (N + 1 - i) + rkC c < n → ∃ r, pE κ vl n c i d = some r := by
  intro n
  induction n with
  | zero => intro c i d _ h; omega
  | succ n ih =>
    intro c i d hi h
    have up : ∀ c' i' d', i < i' → i' ≤ N → ∃ r, pE κ vl n c' i' d' = some r := by
      intro c' i' d' h1 h2
      have := rkC_le c'
      exact ih c' i' d' h2 (by omega)
    have same : ∀ c' d', rkC c' < rkC c → ∃ r, pE κ vl n c' i d' = some r := fun c' d' h1 => ih c' i d' hi (by omega)
    have nx : ∀ {c' : Nat} {j : Nat} {w : List (Int32 × Int32)} {ks : List Nat} {i' : Nat} {d' : Nat}, i ≤ i' → i' ≤ N → mainC c' = 1 → pE κ vl n c' i' d' = some (.inl (j, w, ks)) → i < j ∧ j ≤ N := by
      intro c' j w ks i' d' h1 h2 h3 h4
      have := pE_ok hN n c' i' d' _ h2 h4
      rw [h3] at this
      exact ⟨by have := this.1; omega, this.2.1⟩
    show ∃ r, pB κ vl (pE κ vl n) c i d = some r
    unfold pB
    split
    · next e =>
      subst e
      refine sqc_is (same 2 d (by decide)) (fun j w ks e => ?_)
      obtain ⟨j1, j2⟩ := nx (Nat.le_refl _) hi rfl e
      exact up _ _ _ j1 j2
    · split
      · unfold pSumR
        split
        · next e =>
          have s1 : i + 1 ≤ N := e.elim (fun e => tk_suc hN hi e (by decide) (by decide)) (fun e => tk_suc hN hi e (by decide) (by decide))
          refine sqc_is (sqc_is (up _ _ _ (by omega) s1) (fun j w ks e => ⟨_, rfl⟩)) (fun j w ks e => ?_)
          rcases sqc_some e with ⟨j', e3, e4⟩ | ⟨j', w', ks', r2, e3, e4, e5⟩
          · cases e4
          · unfold prW at e4
            cases e4
            cases e5
            obtain ⟨j1, j2⟩ := nx (by omega) s1 rfl e3
            exact up _ _ _ j1 j2
        · exact ⟨_, rfl⟩
      · split
        · next e =>
          subst e
          refine sqc_is (same 4 d (by decide)) (fun j w ks e => ?_)
          obtain ⟨j1, j2⟩ := nx (Nat.le_refl _) hi rfl e
          exact up _ _ _ j1 j2
        · split
          · unfold pProR
            split
            · next e =>
              have s1 : i + 1 ≤ N := e.elim (fun e => tk_suc hN hi e (by decide) (by decide)) (fun e => tk_suc hN hi e (by decide) (by decide))
              refine sqc_is (sqc_is (up _ _ _ (by omega) s1) (fun j w ks e => ⟨_, rfl⟩)) (fun j w ks e => ?_)
              rcases sqc_some e with ⟨j', e3, e4⟩ | ⟨j', w', ks', r2, e3, e4, e5⟩
              · cases e4
              · unfold prW at e4
                cases e4
                cases e5
                obtain ⟨j1, j2⟩ := nx (by omega) s1 rfl e3
                exact up _ _ _ j1 j2
            · exact ⟨_, rfl⟩
          · split
            · unfold pVal
              split
              · next e =>
                have s1 := tk_suc hN hi e (by decide) (by decide)
                split
                · exact ⟨_, rfl⟩
                · exact sqc_is (up _ _ _ (by omega) s1) (fun j w ks e => ⟨_, rfl⟩)
              · split
                · next e =>
                  have s1 := tk_suc hN hi e (by decide) (by decide)
                  split
                  · exact ⟨_, rfl⟩
                  · exact sqc_is (up _ _ _ (by omega) s1) (fun j w ks e => prT_is (fun _ => ⟨_, rfl⟩))
                · split
                  · next e =>
                    have s1 : i + 1 ≤ N := e.elim (fun e => tk_suc hN hi e (by decide) (by decide)) (fun e => tk_suc hN hi e (by decide) (by decide))
                    split
                    · exact ⟨_, rfl⟩
                    · next e2 =>
                      have e40 : κ (i + 1) = 40 := Decidable.byContradiction fun hc => e2 (Or.inr hc)
                      have s2 := tk_suc hN s1 e40 (by decide) (by decide)
                      refine sqc_is (up _ _ _ (by omega) s2) (fun j w ks e3 => prT_is (fun e4 => ?_))
                      obtain ⟨j1, j2⟩ := nx (by omega) s2 rfl e3
                      have s3 := tk_suc hN j2 e4 (by decide) (by decide)
                      exact sqc_is (up _ _ _ (by omega) s3) (fun j w ks e3 => prT_is (fun e4 => ⟨_, rfl⟩))
                  · split
                    · exact prT_is (fun _ => prT_is (fun _ => ⟨_, rfl⟩))
                    · split
                      · next e =>
                        have s1 := tk_suc hN hi e (by decide) (by decide)
                        split
                        · exact ⟨_, rfl⟩
                        · next e2 =>
                          have e40 : κ (i + 1) = 40 := Decidable.byContradiction fun hc => e2 (Or.inr hc)
                          have s2 := tk_suc hN s1 e40 (by decide) (by decide)
                          exact sqc_is (up _ _ _ (by omega) s2) (fun j w ks e3 => prT_is (fun e4 => ⟨_, rfl⟩))
                      · split
                        · exact ⟨_, rfl⟩
                        · split
                          · exact ⟨_, rfl⟩
                          · exact ⟨_, rfl⟩
            · split
              · next e =>
                subst e
                refine sqc_is (same 7 d (by decide)) (fun j w ks e => ?_)
                obtain ⟨j1, j2⟩ := nx (Nat.le_refl _) hi rfl e
                exact up _ _ _ j1 j2
              · split
                · unfold pTesR
                  split
                  · next e =>
                    have s1 := tk_suc hN hi e (by decide) (by decide)
                    refine sqc_is (sqc_is (up _ _ _ (by omega) s1) (fun j w ks e => ⟨_, rfl⟩)) (fun j w ks e => ?_)
                    rcases sqc_some e with ⟨j', e3, e4⟩ | ⟨j', w', ks', r2, e3, e4, e5⟩
                    · cases e4
                    · unfold prW at e4
                      cases e4
                      cases e5
                      obtain ⟨j1, j2⟩ := nx (by omega) s1 rfl e3
                      exact up _ _ _ j1 j2
                  · exact ⟨_, rfl⟩
                · split
                  · next e =>
                    subst e
                    refine sqc_is (same 9 d (by decide)) (fun j w ks e => ?_)
                    obtain ⟨j1, j2⟩ := nx (Nat.le_refl _) hi rfl e
                    exact up _ _ _ j1 j2
                  · split
                    · unfold pBotR
                      split
                      · next e =>
                        have s1 := tk_suc hN hi e (by decide) (by decide)
                        refine sqc_is (sqc_is (up _ _ _ (by omega) s1) (fun j w ks e => ⟨_, rfl⟩)) (fun j w ks e => ?_)
                        rcases sqc_some e with ⟨j', e3, e4⟩ | ⟨j', w', ks', r2, e3, e4, e5⟩
                        · cases e4
                        · unfold prW at e4
                          cases e4
                          cases e5
                          obtain ⟨j1, j2⟩ := nx (by omega) s1 rfl e3
                          exact up _ _ _ j1 j2
                      · exact ⟨_, rfl⟩
                    · next n0 n1 n2 n3 n4 n5 n6 n7 n8 =>
                      have rk : rkC c = 4 := by
                        unfold rkC
                        rw [if_neg n4, if_neg n2, if_neg n0, if_neg (by omega), if_neg n7, if_neg n5]
                      unfold pSin
                      split
                      · next e =>
                        have s1 := tk_suc hN hi e (by decide) (by decide)
                        split
                        · exact ⟨_, rfl⟩
                        · exact sqc_is (up _ _ _ (by omega) s1) (fun j w ks e => ⟨_, rfl⟩)
                      · split
                        · next e =>
                          have s1 := tk_suc hN hi e (by decide) (by decide)
                          split
                          · exact ⟨_, rfl⟩
                          · exact sqc_is (up _ _ _ (by omega) s1) (fun j w ks e => prT_is (fun _ => ⟨_, rfl⟩))
                        · split
                          · exact prT_is (fun _ => ⟨_, rfl⟩)
                          · split
                            · next e =>
                              have s1 := tk_suc hN hi e (by decide) (by decide)
                              exact sqc_is (up _ _ _ (by omega) s1) (fun j w ks e => ⟨_, rfl⟩)
                            · refine sqc_is (same 0 d (by rw [rk]; decide)) (fun j w ks e => ?_)
                              obtain ⟨j1, j2⟩ := nx (Nat.le_refl _) hi rfl e
                              cases hs : sgO (κ j) with
                              | none => exact ⟨_, rfl⟩
                              | some o =>
                                have s3 := tk_suc hN j2 rfl (sgO_ne hs).1 (sgO_ne hs).2
                                exact sqc_is (up _ _ _ (by omega) s3) (fun j w ks e => ⟨_, rfl⟩)
end PF
