/-! THE PLAIN LAW: lines and the whole book, pure -/
/-- a line: its first token, the token behind it, rows of the seat, rows of the test, names -/
abbrev Ln : Type := Nat × Nat × List (Int32 × Int32) × List (Int32 × Int32) × List Nat
/-- tokens one behind another -/
def tmp (κ : Nat → Nat) : Nat → List Nat → Nat ⊕ Nat
  | i, [] => .inl i
  | i, c :: r => if κ i = c then tmp κ (i + 1) r else .inr i
def pX (κ : Nat → Nat) (vl : Nat → Int32) (c i : Nat) : PR := match pE κ vl 7000 c i 0 with
  | some r => r
  | none => .inr i
def tmL (κ : Nat → Nat) (i : Nat) (cs : List Nat) : Ln ⊕ Nat := match tmp κ (i + 1) cs with
  | .inl j => .inl (i, j, [], [], [])
  | .inr j => .inr j
def pOrd (κ : Nat → Nat) (vl : Nat → Int32) (i : Nat) : Ln ⊕ Nat := match pX κ vl 0 (i + 1) with
  | .inr j => .inr j
  | .inl (j, w, ks) => if κ j = 14 then (match pX κ vl 5 (j + 1) with
    | .inr j2 => .inr j2
    | .inl (j2, w2, ks2) => .inl (i, j2, w, w2, ks ++ ks2)) else .inl (i, j, w, [], ks)
def pLin (κ : Nat → Nat) (vl : Nat → Int32) (i : Nat) : Ln ⊕ Nat :=
  if κ i = 11 ∨ κ i = 12 ∨ κ i = 13 then pOrd κ vl i
  else if κ i = 2 then tmL κ i [30, 3, 31, 4, 31]
  else if κ i = 7 then tmL κ i [8, 31, 44, 31]
  else if κ i = 5 then tmL κ i [8, 31, 44, 31, 9, 31]
  else if κ i = 6 then tmL κ i [8, 31, 44, 31, 10, 30]
  else .inr i
def pBk (κ : Nat → Nat) (vl : Nat → Int32) : Nat → Nat → List Ln ⊕ Nat
  | 0, i => .inr i
  | f + 1, i => if κ i = 33 then .inl [] else match pLin κ vl i with
    | .inr j => .inr j
    | .inl l => if κ l.2.1 = 59 then (match pBk κ vl f (l.2.1 + 1) with
      | .inr j => .inr j
      | .inl L => .inl (l :: L)) else .inr l.2.1
/-- where the lines begin, or where it fails -/
def pHd (κ : Nat → Nat) : Nat ⊕ Nat := if κ 0 = 0 then tmp κ 1 [31, 1, 31, 59] else .inl 0
def pBook (κ : Nat → Nat) (vl : Nat → Int32) : List Ln ⊕ Nat := match pHd κ with
  | .inr j => .inr j
  | .inl i => pBk κ vl 401 i
section BK
variable {κ : Nat → Nat} {vl : Nat → Int32} {N : Nat}
theorem pX_eq (hN : tkN κ N) {c i : Nat} (hi : i ≤ N) : pE κ vl 7000 c i 0 = some (pX κ vl c i) := by
  have h1 := hN.1
  have h2 := rkC_le c
  obtain ⟨r, hr⟩ := pE_tot (vl := vl) hN 7000 c i 0 hi (by omega)
  unfold pX
  rw [hr]
theorem pX_ok (hN : tkN κ N) {c i : Nat} (hi : i ≤ N) : okE κ N (mainC c) i (pX κ vl c i) := pE_ok hN 7000 c i 0 _ hi (pX_eq hN hi)
theorem tmp_ok (hN : tkN κ N) : ∀ (cs : List Nat) (i : Nat), (∀ c, c ∈ cs → c ≠ 32 ∧ c ≠ 33) → i ≤ N → match tmp κ i cs with
    | .inl j => j = i + cs.length ∧ j ≤ N ∧ ∀ k c, cs[k]? = some c → κ (i + k) = c
    | .inr j => i ≤ j ∧ j ≤ N := by
  intro cs
  induction cs with
  | nil =>
    intro i _ hi
    exact ⟨rfl, hi, fun k c h => by cases h⟩
  | cons c r ih =>
    intro i hc hi
    have h1 := hc c (by simp)
    simp only [tmp]
    by_cases e : κ i = c
    · rw [if_pos e]
      have s1 := tk_suc hN hi e h1.1 h1.2
      have := ih (i + 1) (fun d hd => hc d (by simp [hd])) s1
      cases ht : tmp κ (i + 1) r with
      | inl j =>
        rw [ht] at this
        obtain ⟨a1, a2, a3⟩ := this
        refine ⟨by rw [List.length_cons]; omega, a2, fun k c' hk => ?_⟩
        cases k with
        | zero =>
          cases hk
          exact e
        | succ k =>
          have := a3 k c' hk
          rw [show i + (k + 1) = i + 1 + k by omega]
          exact this
      | inr j =>
        rw [ht] at this
        exact ⟨by have := this.1; omega, this.2⟩
    · rw [if_neg e]
      exact ⟨Nat.le_refl _, hi⟩
/-- a line lies well -/
def okL (κ : Nat → Nat) (N i : Nat) (l : Ln) : Prop := l.1 = i ∧ i < l.2.1 ∧ l.2.1 ≤ N ∧ l.2.2.1.length + l.2.2.2.1.length ≤ l.2.1 - i - 1 ∧ ∀ k, k ∈ l.2.2.2.2 → i < k ∧ k < l.2.1 ∧ κ k = 30
theorem tmL_ok (hN : tkN κ N) {i : Nat} {cs : List Nat} (hc : ∀ c, c ∈ cs → c ≠ 32 ∧ c ≠ 33) (hi : i + 1 ≤ N) : match tmL κ i cs with
    | .inl l => okL κ N i l ∧ l = (i, i + 1 + cs.length, [], [], []) ∧ ∀ k c, cs[k]? = some c → κ (i + 1 + k) = c
    | .inr j => i ≤ j ∧ j ≤ N := by
  have := tmp_ok hN cs (i + 1) hc hi
  unfold tmL
  cases ht : tmp κ (i + 1) cs with
  | inl j =>
    rw [ht] at this
    obtain ⟨a1, a2, a3⟩ := this
    subst a1
    exact ⟨⟨rfl, by show i < i + 1 + cs.length; omega, a2, Nat.zero_le _, fun k hk => by cases hk⟩, rfl, a3⟩
  | inr j =>
    rw [ht] at this
    exact ⟨by have := this.1; omega, this.2⟩
theorem pOrd_ok (hN : tkN κ N) {i : Nat} (hi : i + 1 ≤ N) : match pOrd κ vl i with
    | .inl l => okL κ N i l
    | .inr j => i ≤ j ∧ j ≤ N := by
  have h1 := pX_ok (vl := vl) (c := 0) hN hi
  unfold pOrd
  cases hx : pX κ vl 0 (i + 1) with
  | inr j =>
    rw [hx] at h1
    exact ⟨by have := h1.1; omega, h1.2⟩
  | inl t =>
    obtain ⟨j, w, ks⟩ := t
    rw [hx] at h1
    obtain ⟨a1, a2, a3, a4⟩ := h1
    have a1 : i + 1 + 1 ≤ j := a1
    show match (if κ j = 14 then (match pX κ vl 5 (j + 1) with
      | .inr j2 => .inr j2
      | .inl (j2, w2, ks2) => .inl (i, j2, w, w2, ks ++ ks2)) else .inl (i, j, w, [], ks) : Ln ⊕ Nat) with
    | .inl l => okL κ N i l
    | .inr j => i ≤ j ∧ j ≤ N
    by_cases e : κ j = 14
    · rw [if_pos e]
      have s1 := tk_suc hN a2 e (by decide) (by decide)
      have h2 := pX_ok (vl := vl) (c := 5) hN s1
      cases hx2 : pX κ vl 5 (j + 1) with
      | inr j2 =>
        rw [hx2] at h2
        exact ⟨by have := h2.1; omega, h2.2⟩
      | inl t2 =>
        obtain ⟨j2, w2, ks2⟩ := t2
        rw [hx2] at h2
        obtain ⟨b1, b2, b3, b4⟩ := h2
        have b1 : j + 1 + 1 ≤ j2 := b1
        refine ⟨rfl, by show i < j2; omega, b2, ?_, fun k hk => ?_⟩
        · show w.length + w2.length ≤ j2 - i - 1
          omega
        · show i < k ∧ k < j2 ∧ κ k = 30
          have hk : k ∈ ks ++ ks2 := hk
          rw [List.mem_append] at hk
          rcases hk with hk | hk
          · have := a4 k hk
            exact ⟨by omega, by omega, this.2.2⟩
          · have := b4 k hk
            exact ⟨by omega, by omega, this.2.2⟩
    · rw [if_neg e]
      refine ⟨rfl, by show i < j; omega, a2, ?_, fun k hk => ?_⟩
      · show w.length + 0 ≤ j - i - 1
        omega
      · have := a4 k hk
        exact ⟨by omega, this.2.1, this.2.2⟩
theorem pLin_ok (hN : tkN κ N) {i : Nat} (hi : i ≤ N) : match pLin κ vl i with
    | .inl l => okL κ N i l
    | .inr j => i ≤ j ∧ j ≤ N := by
  unfold pLin
  by_cases e : κ i = 11 ∨ κ i = 12 ∨ κ i = 13
  · rw [if_pos e]
    have s1 : i + 1 ≤ N := by
      rcases e with e | e | e <;> exact tk_suc hN hi e (by decide) (by decide)
    exact pOrd_ok hN s1
  · rw [if_neg e]
    have go : ∀ c cs, κ i = c → c ≠ 32 → c ≠ 33 → (∀ c, c ∈ cs → c ≠ 32 ∧ c ≠ 33) → match tmL κ i cs with
        | .inl l => okL κ N i l
        | .inr j => i ≤ j ∧ j ≤ N := by
      intro c cs e c1 c2 hc
      have := tmL_ok hN hc (tk_suc hN hi e c1 c2)
      cases ht : tmL κ i cs with
      | inl l =>
        rw [ht] at this
        exact this.1
      | inr j =>
        rw [ht] at this
        exact this
    by_cases e2 : κ i = 2
    · rw [if_pos e2]
      exact go 2 _ e2 (by decide) (by decide) (by decide)
    · rw [if_neg e2]
      by_cases e7 : κ i = 7
      · rw [if_pos e7]
        exact go 7 _ e7 (by decide) (by decide) (by decide)
      · rw [if_neg e7]
        by_cases e5 : κ i = 5
        · rw [if_pos e5]
          exact go 5 _ e5 (by decide) (by decide) (by decide)
        · rw [if_neg e5]
          by_cases e6 : κ i = 6
          · rw [if_pos e6]
            exact go 6 _ e6 (by decide) (by decide) (by decide)
          · rw [if_neg e6]
            exact ⟨Nat.le_refl _, hi⟩
theorem pHd_ok (hN : tkN κ N) : match pHd κ with
    | .inl i => i ≤ N ∧ (i = 0 ∨ (i = 5 ∧ κ 0 = 0 ∧ κ 1 = 31 ∧ κ 2 = 1 ∧ κ 3 = 31 ∧ κ 4 = 59))
    | .inr j => j ≤ N := by
  unfold pHd
  by_cases e : κ 0 = 0
  · rw [if_pos e]
    have := tmp_ok hN [31, 1, 31, 59] 1 (by decide) (tk_suc hN (Nat.zero_le _) e (by decide) (by decide))
    cases ht : tmp κ 1 [31, 1, 31, 59] with
    | inl j =>
      rw [ht] at this
      obtain ⟨a1, a2, a3⟩ := this
      exact ⟨a2, Or.inr ⟨a1, e, a3 0 31 rfl, a3 1 1 rfl, a3 2 31 rfl, a3 3 59 rfl⟩⟩
    | inr j =>
      rw [ht] at this
      exact this.2
  · rw [if_neg e]
    exact ⟨Nat.zero_le _, Or.inl rfl⟩
end BK
/-! the second look, pure: what is told so far (counts, names, tables) -/
abbrev SS : Type := (Nat → Nat) × (Nat → Nat) × (Nat → Nat → Int32)
def fnN (nm : Nat → Nat) (z : Nat) : Nat → Nat → Option Nat
  | 0, _ => none
  | r + 1, k => if nm k = z then some k else fnN nm z r (k + 1)
/-- the empire of a name -/
def fnd (S : SS) (z : Nat) : Option Nat := fnN S.2.1 z (S.1 22) 0
section LK
variable (κ : Nat → Nat) (nb : Nat → Nat) (nw : Nat → Nat)
/-- an empire; nb: numbers, nw: names, by tokens -/
def lEmp (S : SS) (i : Nat) : SS ⊕ (Nat × Nat) :=
  if (fnd S (nw (i + 1))).isSome then .inr (2, i + 1)
  else if S.1 22 = 6 then .inr (4, i + 1)
  else if 999 < nb (i + 3) then .inr (5, i + 3)
  else if 999 < nb (i + 5) ∨ nb (i + 5) < nb (i + 3) then .inr (5, i + 5)
  else .inl (updN S.1 22 (S.1 22 + 1), updN S.2.1 (S.1 22) (nw (i + 1)), up2 (up2 S.2.2 24 (S.1 22) (n3 (nb (i + 3)))) 25 (S.1 22) (n3 (nb (i + 5))))
/-- a place: its cushion -/
def lPla (S : SS) (i : Nat) (isF : Bool) : Nat ⊕ (Nat × Nat) :=
  if S.1 20 ≤ nb (i + 2) then .inr (5, i + 2)
  else if S.1 21 ≤ nb (i + 4) then .inr (5, i + 4)
  else if (if isF = true then S.2.2 30 (10 * nb (i + 2) + nb (i + 4)) ≠ -1 else S.2.2 31 (10 * nb (i + 2) + nb (i + 4)) ≠ 0) then .inr (2, i + 4)
  else .inl (10 * nb (i + 2) + nb (i + 4))
def lSpr (S : SS) (i : Nat) : SS ⊕ (Nat × Nat) := match lPla nb S i false with
  | .inr e => .inr e
  | .inl c => .inl (S.1, S.2.1, up2 S.2.2 31 c 1)
/-- a find; co: a coin -/
def lFin (S : SS) (i : Nat) (co : Bool) : SS ⊕ (Nat × Nat) :=
  if S.1 26 = 24 then .inr (4, i)
  else match lPla nb S i true with
    | .inr e => .inr e
    | .inl c => if co = true then (if 999 < nb (i + 6) then .inr (5, i + 6) else .inl (updN S.1 26 (S.1 26 + 1), S.2.1, up2 (up2 (up2 (up2 S.2.2 27 (S.1 26) 1) 30 c (n3 (S.1 26))) 28 (S.1 26) (n3 c)) 29 (S.1 26) (n3 (nb (i + 6)))))
      else match fnd S (nw (i + 6)) with
        | none => .inr (3, i + 6)
        | some e => .inl (updN S.1 26 (S.1 26 + 1), S.2.1, up2 (up2 (up2 (up2 (up2 S.2.2 27 (S.1 26) 0) 30 c (n3 (S.1 26))) 28 (S.1 26) (n3 c)) 29 (S.1 26) (n3 e)) 9 (i + 6) (n3 e))
/-- names of an order -/
def lNam (S : SS) : List Nat → SS ⊕ (Nat × Nat)
  | [] => .inl S
  | k :: r => match fnd S (nw k) with
    | none => .inr (3, k)
    | some e => lNam (S.1, S.2.1, up2 S.2.2 9 k (n3 e)) r
def lOrd (S : SS) (l : Ln) : SS ⊕ (Nat × Nat) := if S.1 32 = 16 then .inr (4, l.1) else lNam nw (updN S.1 32 (S.1 32 + 1), S.2) l.2.2.2.2
def lLin (S : SS) (l : Ln) : SS ⊕ (Nat × Nat) :=
  if κ l.1 = 2 then lEmp nb nw S l.1 else if κ l.1 = 7 then lSpr nb S l.1 else if κ l.1 = 5 then lFin nb nw S l.1 true else if κ l.1 = 6 then lFin nb nw S l.1 false else lOrd nw S l
def lAll (S : SS) : List Ln → SS ⊕ (Nat × Nat)
  | [] => .inl S
  | l :: r => match lLin κ nb nw S l with
    | .inr e => .inr e
    | .inl S' => lAll S' r
def lHd (S : SS) : SS ⊕ (Nat × Nat) := if κ 0 = 0 then (if nb 1 < 2 ∨ 8 < nb 1 then .inr (5, 1) else if nb 3 < 2 ∨ 10 < nb 3 then .inr (5, 3) else .inl (updN (updN S.1 20 (nb 1)) 21 (nb 3), S.2)) else .inl S
end LK
