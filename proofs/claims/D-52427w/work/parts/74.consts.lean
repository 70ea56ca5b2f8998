/-! the constants' addresses at the start, by evaluation; fields of constant objects -/
def st_ref (s : State) (b : Nat) (t : Term) : Nat := match t.eval #[Value.ref b] s none [] s with
  | some (.ref a) => a
  | _ => 0
def st_q (s : State) (b : Nat) (t : Term) : Option Nat := match t.eval #[Value.ref b] s none [] s with
  | some (.ref a) => some a
  | _ => none
def st_cf (s : State) (i a : Nat) : Option Nat := match sd_cfs[i]? with
  | none => none
  | some q => match s.fieldFound? q.1 q.2.1 q.2.2 with
    | none => none
    | some z => if z.2.2.2.isStatic = false then (match s.heap[a]? with
      | none => none
      | some ce9 => if ce9.vm ≠ .unknown then (match ce9.slots[z.2.2.2.slot]? with
        | some (.ref v) => some v
        | _ => none) else none) else none
theorem st_cf_ok {s : State} {i a v : Nat} {q : String × String × String} (hq : sd_cfs[i]? = some q) (h : st_cf s i a = some v) : va_OF q.1 q.2.1 q.2.2 (.ref v) a (fun x => s.heap.size ≤ x) s s.heap := by
  unfold st_cf at h
  rw [hq] at h
  simp only at h
  split at h
  · cases h
  · next z hz =>
    split at h
    · next hst =>
      split at h
      · cases h
      · next ce9 hce =>
        split at h
        · next hvm =>
          split at h
          · next w hw =>
            cases h
            exact ⟨z.1, z.2.1, z.2.2.1, z.2.2.2, ce9, hz, hst, hce, hvm, hw, Nat.not_le_of_lt (Array.getElem?_eq_some_iff.mp hce).1⟩
          · cases h
        · cases h
    · cases h
