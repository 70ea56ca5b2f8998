/-! THE PLAIN LAW: the rows of the new plan -/
section RW2
variable {u : Nat → Nat} {sz : Nat}
theorem pBook_mem {L : List Ln} (h : pBook (kdT u sz) (vlT u sz) = .inl L) : ∀ l, l ∈ L → pLin (kdT u sz) (vlT u sz) l.1 = .inl l ∧ l.1 ≤ nT u sz := by
  have hN := tkT (u := u) (sz := sz)
  unfold pBook at h
  cases hh : pHd (kdT u sz) with
  | inr j =>
    rw [hh] at h
    cases h
  | inl i0 =>
    rw [hh] at h
    have hi0 : i0 ≤ nT u sz := by
      have := pHd_ok hN
      rw [hh] at this
      exact this.1
    intro l hl
    have := pBk_mem hN 401 i0 L hi0 h l hl
    exact ⟨this.1, this.2.2⟩
theorem rwL_res {wk : Nat → Option Nat} {x : Nat → Nat → Int32} : ∀ (w : List (Int32 × Int32)) (b : Nat), (∀ t r, w[t]? = some r → (x 36 (b + t), x 37 (b + t)) = resR wk r) → rwL x w.length b = res wk w := by
  intro w
  induction w with
  | nil => intro b _; rfl
  | cons a r ih =>
    intro b h
    show (x 36 b, x 37 b) :: rwL x r.length (b + 1) = resR wk a :: res wk r
    rw [ih (b + 1) (fun t r' ht => by
      have := h (t + 1) r' ht
      rw [show b + 1 + t = b + (t + 1) by omega]
      exact this)]
    have := h 0 a rfl
    rw [← this]
    rfl
theorem lHd_ok {κ nb : Nat → Nat} {S S' : SS} (h : lHd κ nb S = .inl S') (hP : okP S.1 S.2.2) : okP S'.1 S'.2.2 := by
  unfold lHd at h
  split at h
  · split at h
    · cases h
    · split at h
      · cases h
      · next c1 c3 =>
        cases h
        obtain ⟨p1, p2, p3, p4, p5, p6, p7⟩ := hP
        exact ⟨⟨by show 2 ≤ nb 1; omega, by show nb 1 ≤ 8; omega⟩, ⟨by show 2 ≤ nb 3; omega, by show nb 3 ≤ 10; omega⟩, p3, p4, p5, p6, p7⟩
  · cases h
    exact hP
theorem lBook_ok {κ nb nw : Nat → Nat} {L : List Ln} {S S' : SS} (h : lBook κ nb nw S L = .inl S') (hP : okP S.1 S.2.2) : okP S'.1 S'.2.2 := by
  unfold lBook at h
  cases hh : lHd κ nb S with
  | inr e =>
    rw [hh] at h
    cases h
  | inl S1 =>
    rw [hh] at h
    exact lAll_ok L S1 S' h (lHd_ok hh hP)
theorem lBook_9 {κ nb nw : Nat → Nat} {L : List Ln} {S S' : SS} (h : lBook κ nb nw S L = .inl S') : ∀ l, l ∈ flO κ L → ∀ t, t ∈ l.2.2.2.2 → ∃ e, fnd S' (nw t) = some e ∧ S'.2.2 9 t = n3 e := by
  unfold lBook at h
  cases hh : lHd κ nb S with
  | inr e =>
    rw [hh] at h
    cases h
  | inl S1 =>
    rw [hh] at h
    intro l hl t ht
    exact lAll_9 L S1 S' (fun _ => False) h (fun t q => q.elim) t (Or.inr ⟨l, hl, ht⟩)
theorem okP_0 {X x : Nat → Nat → Int32} (hX : ∀ j, 20 ≤ j → j ≤ 32 → X j = xP x j) : okP q0S X := by
  have h30 : ∀ c, c < 80 → X 30 c = -1 := by
    intro c hc
    rw [hX 30 (by omega) (by omega)]
    show (if c < 80 then (-1 : Int32) else 0) = -1
    rw [if_pos hc]
  have h31 : ∀ c, X 31 c = 0 := by
    intro c
    rw [hX 31 (by omega) (by omega)]
    rfl
  refine ⟨⟨by decide, by decide⟩, ⟨by decide, by decide⟩, by decide, by decide, by decide, fun f hf => ?_, fun c hc => ⟨Or.inl (h30 c hc), Or.inl (h31 c)⟩⟩
  have : q0S 26 = 0 := rfl
  omega
/-- the rows of the model's plan are those of the component's trees -/
theorem rows_eq {L : List Ln} {S S0 : SS} {X : Nat → Nat → Int32} {m : Nat} (hL : pBook (kdT u sz) (vlT u sz) = .inl L) (hB : lBook (kdT u sz) (nbT u sz) (nwT u sz) S0 L = .inl S) (hX : ∀ j, 32 < j → S.2.2 j = X j) (O : OT (kdT u sz) (flO (kdT u sz) L) (X 33) (X 34) (X 35) (X 36) (X 37) m) (hm : m ≤ 400) (h16 : (flO (kdT u sz) L).length ≤ 16) :
    ∀ k l, (flO (kdT u sz) L)[k]? = some l → (rx S.2.2 (resQ (X 36) (X 37) (S.2.2 9) m)) 33 k = n3 (kdT u sz l.1) ∧ prt (rx S.2.2 (resQ (X 36) (X 37) (S.2.2 9) m)) (2 * k) = res (wkS S u sz) l.2.2.1 ∧ prt (rx S.2.2 (resQ (X 36) (X 37) (S.2.2 9) m)) (2 * k + 1) = res (wkS S u sz) l.2.2.2.1 := by
  intro k l hk
  obtain ⟨a1, b0, b1, b2, c1, c2, c3, c4, e1, e2, e3, r1, r2⟩ := O.2 h16 k l hk
  have hl : l ∈ flO (kdT u sz) L := List.mem_of_getElem? hk
  have hl2 : l ∈ L := (List.mem_filter.mp hl).1
  obtain ⟨p1, p2⟩ := pBook_mem hL l hl2
  obtain ⟨z1, z2⟩ := pLin_abt p2 p1
  have h9 := lBook_9 hB l hl
  have key : ∀ (w : List (Int32 × Int32)) (b : Nat), rwA (X 36) (X 37) b w → b + w.length ≤ m → (∀ z, z ∈ w → abR z → ∃ k, k ∈ l.2.2.2.2 ∧ z.2 = n3 k ∧ k ≤ 1000) → rwL (rx S.2.2 (resQ (X 36) (X 37) (S.2.2 9) m)) w.length b = res (wkS S u sz) w := by
    intro w b hr hb hz
    refine rwL_res w b (fun t r ht => ?_)
    obtain ⟨q1, q2⟩ := hr t r ht
    have lt : t < w.length := by
      obtain ⟨q, -⟩ := List.getElem?_eq_some_iff.mp ht
      exact q
    have e36 : rx S.2.2 (resQ (X 36) (X 37) (S.2.2 9) m) 36 (b + t) = r.1 := by
      show S.2.2 36 (b + t) = r.1
      rw [hX 36 (by omega)]
      exact q1
    have e37 : rx S.2.2 (resQ (X 36) (X 37) (S.2.2 9) m) 37 (b + t) = resQ (X 36) (X 37) (S.2.2 9) m (b + t) := rfl
    rw [e36, e37]
    unfold resQ resR
    rw [q1, q2]
    by_cases c : r.1 = 19 ∨ r.1 = 20 ∨ r.1 = 22
    · rw [if_pos ⟨by omega, c⟩, if_pos c]
      obtain ⟨k', k1, k2, k3⟩ := hz r (List.mem_of_getElem? ht) c
      obtain ⟨e, f1, f2⟩ := h9 k' k1
      have e4 : r.2.toNatClampNeg = k' := by
        rw [k2]
        exact n3_nn (by omega)
      rw [e4, f2]
      unfold wkS
      rw [f1]
      rfl
    · rw [if_neg (fun q => c q.2), if_neg c]
  have g34 : ∀ p, rx S.2.2 (resQ (X 36) (X 37) (S.2.2 9) m) 34 p = X 34 p := fun p => congrFun (hX 34 (by omega)) p
  have g35 : ∀ p, rx S.2.2 (resQ (X 36) (X 37) (S.2.2 9) m) 35 p = X 35 p := fun p => congrFun (hX 35 (by omega)) p
  refine ⟨(congrFun (hX 33 (by omega)) k).trans a1, ?_, ?_⟩
  · unfold prt
    rw [g34, g35, c1, c2, n3_nn (by omega), n3_nn (by omega), show b1 - b0 = l.2.2.1.length by omega]
    exact key _ _ r1 (by omega) z1
  · unfold prt
    rw [g34, g35, c3, c4, n3_nn (by omega), n3_nn (by omega), show b2 - b1 = l.2.2.2.1.length by omega]
    exact key _ _ r2 (by omega) z2
/-- and where they lie -/
theorem rows_at {L : List Ln} {S : SS} {X : Nat → Nat → Int32} {m : Nat} {r : Nat → Int32} (hX : ∀ j, 32 < j → S.2.2 j = X j) (O : OT (kdT u sz) (flO (kdT u sz) L) (X 33) (X 34) (X 35) (X 36) (X 37) m) (hm : m ≤ 400) (h16 : (flO (kdT u sz) L).length ≤ 16) {k : Nat} {l : Ln} (hk : (flO (kdT u sz) L)[k]? = some l) : ∀ p, p = 2 * k ∨ p = 2 * k + 1 → ∃ i0 i1, rx S.2.2 r 34 p = n3 i0 ∧ rx S.2.2 r 35 p = n3 i1 ∧ i0 ≤ i1 ∧ i1 ≤ 800 := by
  intro p hp
  obtain ⟨a1, b0, b1, b2, c1, c2, c3, c4, e1, e2, e3, r1, r2⟩ := O.2 h16 k l hk
  rcases hp with rfl | rfl
  · exact ⟨b0, b1, (congrFun (hX 34 (by omega)) _).trans c1, (congrFun (hX 35 (by omega)) _).trans c2, by omega, by omega⟩
  · exact ⟨b1, b2, (congrFun (hX 34 (by omega)) _).trans c3, (congrFun (hX 35 (by omega)) _).trans c4, by omega, by omega⟩
end RW2
/-- rows that a tree was read from are well made -/
theorem okR_of {ne : Nat} {x : Nat → Nat → Int32} {p d : Nat} (h : ∃ i0 i1, x 34 p = n3 i0 ∧ x 35 p = n3 i1 ∧ i0 ≤ i1 ∧ i1 ≤ 800) (hc : ckL ne (prt x p) 0 = some d) : okR ne x p d := by
  obtain ⟨i0, i1, h1, h2, h3, h4⟩ := h
  refine ⟨i0, i1, h1, h2, h3, h4, ?_⟩
  rw [chk_ckL]
  unfold prt at hc
  rw [h1, h2, n3_nn (by omega), n3_nn (by omega)] at hc
  exact hc
