/-! THE LAYER: an abstract heap (cells by address: arrays by type number, objects by class number and field list), exact functions over it, and how the machine carries them out. -/
abbrev sd_E : Type := (Nat × vp_A) ⊕ (Nat × List Value)
/-- size, and the cells made since the law's start -/
abbrev sd_H : Type := Nat × (Nat → Option sd_E)
/-- fixed all through: (first new address, heap at the law's start), (class ids, slots), ids of array classes, constant cells, addresses of constants, nullable ones, fields of constant objects -/
abbrev sd_G : Type := (Nat × Heap) × va_G × (Nat → ClassId) × (Nat → Option sd_E) × (Nat → Nat) × (Nat → Option Nat) × (Nat → Nat → Option Nat)
def sd_z (G : sd_G) : Nat := G.1.1
def sd_O (G : sd_G) : Heap := G.1.2
def sd_D (G : sd_G) : va_G := G.2.1
def sd_A (G : sd_G) : Nat → ClassId := G.2.2.1
def sd_c (G : sd_G) : Nat → Option sd_E := G.2.2.2.1
def sd_ad (G : sd_G) : Nat → Nat := G.2.2.2.2.1
def sd_aq (G : sd_G) : Nat → Option Nat := G.2.2.2.2.2.1
def sd_cf (G : sd_G) : Nat → Nat → Option Nat := G.2.2.2.2.2.2
def sd_look (G : sd_G) (h : sd_H) (a : Nat) : Option sd_E := match h.2 a with
  | some e => some e
  | none => sd_c G a
def sd_up (h : sd_H) (a : Nat) (e : sd_E) : sd_H := (h.1, fun b => if b = a then some e else h.2 b)
def sd_pu (h : sd_H) (e : sd_E) : sd_H := (h.1 + 1, fun b => if b = h.1 then some e else h.2 b)
def sd_sv (x : vp_A) (j : Nat) : Value := match x.2 with
  | .inl f => .int (f j)
  | .inr (.inl f) => .long (f j)
  | .inr (.inr (.inl f)) => .float (f j)
  | .inr (.inr (.inr (.inl f))) => .double (f j)
  | .inr (.inr (.inr (.inr f))) => va_rf (f j)
/-- the cell at a is as e says -/
def sd_at (G : sd_G) (a : Nat) (e : sd_E) (cell : Cell) : Prop := cell.vm ≠ .unknown ∧ cell.vm.isStatics = false ∧ (sd_z G ≤ a → cell.vm = .none) ∧ match e with
  | .inl x => (cell.cls = sd_A G x.1 ∨ (x.1 = 0 ∧ cell.cls = sd_A G 10)) ∧ x.1 < sd_ty.length ∧ cell.slots.size = x.2.1 ∧ ∀ j, j < x.2.1 → cell.slots[j]? = some (sd_sv x.2 j)
  | .inr o => cell.cls = (sd_D G).1 o.1 ∧ ∃ r, sd_cl[o.1]? = some r ∧ (∀ k, k < r.2.2 → cell.slots[(sd_D G).2 o.1 k]? = some (vp_V o.2 k)) ∧ (o.1 = 51 → cell.monitor.owner = none ∧ cell.monitor.count = 0)
/-- the heap H holds h -/
def sd_R (G : sd_G) (h : sd_H) (H : Heap) : Prop := H.size = h.1 ∧ sd_z G ≤ h.1 ∧ (sd_O G).size = sd_z G ∧ (∀ a, a < sd_z G → H[a]? = (sd_O G)[a]?) ∧ (∀ a e, h.2 a = some e → sd_z G ≤ a ∧ a < h.1 ∧ ∃ cell, H[a]? = some cell ∧ sd_at G a e cell) ∧ ∀ a e, sd_c G a = some e → a < sd_z G ∧ ∃ cell, (sd_O G)[a]? = some cell ∧ sd_at G a e cell
theorem sd_R.look {G : sd_G} {h : sd_H} {H : Heap} (hR : sd_R G h H) {a : Nat} {e : sd_E} (he : sd_look G h a = some e) : a < h.1 ∧ ∃ cell, H[a]? = some cell ∧ sd_at G a e cell := by
  obtain ⟨h1, h2, h3, h4, h5, h6⟩ := hR
  unfold sd_look at he
  cases hh : h.2 a with
  | some e' =>
    rw [hh] at he
    cases he
    obtain ⟨-, q2, q3⟩ := h5 a e hh
    exact ⟨q2, q3⟩
  | none =>
    rw [hh] at he
    obtain ⟨q1, cell, q2, q3⟩ := h6 a e he
    exact ⟨Nat.lt_of_lt_of_le q1 h2, cell, by rw [h4 a q1]; exact q2, q3⟩
theorem sd_R.put {G : sd_G} {h : sd_H} {H H' : Heap} (hR : sd_R G h H) {a : Nat} {e0 e : sd_E} {cell : Cell} (he : h.2 a = some e0) (e1 : H'[a]? = some cell) (e2 : H'.size = H.size) (e3 : ∀ q : Nat, q ≠ a → H'[q]? = H[q]?) (hat : sd_at G a e cell) : sd_R G (sd_up h a e) H' := by
  obtain ⟨h1, h2, h3, h4, h5, h6⟩ := hR
  obtain ⟨z1, z2, -⟩ := h5 a e0 he
  refine ⟨e2.trans h1, h2, h3, fun b hb => ?_, fun b e' hb => ?_, h6⟩
  · rw [e3 b (by omega)]
    exact h4 b hb
  · simp only [sd_up] at hb
    split at hb
    · next hba =>
      subst hba
      cases hb
      exact ⟨z1, z2, cell, e1, hat⟩
    · next hba =>
      obtain ⟨q1, q2, c9, q3, q4⟩ := h5 b e' hb
      exact ⟨q1, q2, c9, by rw [e3 b hba]; exact q3, q4⟩
theorem sd_R.push {G : sd_G} {h : sd_H} {H H' : Heap} (hR : sd_R G h H) {e : sd_E} {cell : Cell} (e1 : H'[H.size]? = some cell) (e2 : H'.size = H.size + 1) (e3 : ∀ q : Nat, q < H.size → H'[q]? = H[q]?) (hat : sd_at G h.1 e cell) : sd_R G (sd_pu h e) H' := by
  obtain ⟨h1, h2, h3, h4, h5, h6⟩ := hR
  refine ⟨by rw [e2, h1]; rfl, Nat.le_succ_of_le h2, h3, fun b hb => ?_, fun b e' hb => ?_, h6⟩
  · rw [e3 b (by omega)]
    exact h4 b hb
  · simp only [sd_pu] at hb
    split at hb
    · next hba =>
      subst hba
      cases hb
      exact ⟨h2, Nat.lt_succ_self _, cell, by rw [← h1]; exact e1, hat⟩
    · next hba =>
      obtain ⟨q1, q2, c9, q3, q4⟩ := h5 b e' hb
      exact ⟨q1, Nat.lt_succ_of_lt q2, c9, by rw [e3 b (by omega)]; exact q3, q4⟩
/-! the exact functions -/
abbrev sd_M (α : Type) : Type := sd_H → Option (α × (Nat × Nat) × sd_H)
def sd_ret {α : Type} (a : α) : sd_M α := fun h => some (a, (0, 0), h)
def sd_fail {α : Type} : sd_M α := fun _ => none
def sd_bnd {α β : Type} (f : sd_M α) (k : α → sd_M β) : sd_M β := fun h => match f h with
  | none => none
  | some (a, c, h1) => match k a h1 with
    | none => none
    | some (b, d, h2) => some (b, (c.1 + d.1, c.2 + d.2), h2)
theorem sd_bnd_some {α β : Type} {f : sd_M α} {k : α → sd_M β} {h h2 : sd_H} {b : β} {c : Nat × Nat} (hf : sd_bnd f k h = some (b, c, h2)) : ∃ (a : α) (c1 c2 : Nat × Nat) (h1 : sd_H), f h = some (a, c1, h1) ∧ k a h1 = some (b, c2, h2) ∧ c = (c1.1 + c2.1, c1.2 + c2.2) := by
  unfold sd_bnd at hf
  cases h1 : f h with
  | none => rw [h1] at hf; cases hf
  | some x =>
    obtain ⟨a, c1, h3⟩ := x
    rw [h1] at hf
    cases h4 : k a h3 with
    | none => simp only [h4] at hf; cases hf
    | some y =>
      obtain ⟨b', d, h5⟩ := y
      simp only [h4] at hf
      cases hf
      exact ⟨a, c1, d, h3, rfl, h4, rfl⟩
/-- a field of a cell -/
def sd_fv (e : Option sd_E) (ci k : Nat) : Option Value := match e with
  | some (.inr o) => if o.1 = ci then o.2[k]? else none
  | _ => none
def sd_getI (G : sd_G) (ci k a : Nat) : sd_M Int32 := fun h => match sd_fv (sd_look G h a) ci k with
  | some (.int v) => some (v, (0, 0), h)
  | _ => none
def sd_getL (G : sd_G) (ci k a : Nat) : sd_M Int64 := fun h => match sd_fv (sd_look G h a) ci k with
  | some (.long v) => some (v, (0, 0), h)
  | _ => none
def sd_getR (G : sd_G) (ci k a : Nat) : sd_M Nat := fun h => match sd_fv (sd_look G h a) ci k with
  | some (.ref v) => some (v, (0, 0), h)
  | _ => none
def sd_getQ (G : sd_G) (ci k a : Nat) : sd_M (Option Nat) := fun h => match sd_fv (sd_look G h a) ci k with
  | some (.ref v) => some (some v, (0, 0), h)
  | some .null => some (none, (0, 0), h)
  | _ => none
def sd_put (ci k : Nat) (ty : FieldType) (a : Nat) (v : Value) : sd_M Unit := fun h => match h.2 a with
  | some (.inr o) => if o.1 = ci ∧ k < o.2.length ∧ narrow ty v = v ∧ fits ty v = true then some ((), (0, 0), sd_up h a (.inr (ci, o.2.set k v))) else none
  | _ => none
/-- an answer of a small type -/
def sd_retN (ty : FieldType) (x : Int32) : sd_M Int32 := fun h => if narrow ty (.int x) = .int x then some (x, (0, 0), h) else none
def sd_new (ci n : Nat) (fs : List Value) : sd_M Nat := fun h => some (h.1, (1, n), sd_pu h (.inr (ci, fs)))
/-- an index within -/
def sd_ix (i : Int32) (n : Nat) : Bool := decide (¬ (i < 0 ∨ n ≤ i.toNatClampNeg))
def sd_aldI (G : sd_G) (t a : Nat) (i : Int32) : sd_M Int32 := fun h => match sd_look G h a with
  | some (.inl (t', n, .inl f)) => if t' = t ∧ sd_ix i n = true then some (f i.toNatClampNeg, (0, 0), h) else none
  | _ => none
def sd_aldL (G : sd_G) (a : Nat) (i : Int32) : sd_M Int64 := fun h => match sd_look G h a with
  | some (.inl (t', n, .inr (.inl f))) => if t' = 1 ∧ sd_ix i n = true then some (f i.toNatClampNeg, (0, 0), h) else none
  | _ => none
def sd_aldQ (G : sd_G) (t a : Nat) (i : Int32) : sd_M (Option Nat) := fun h => match sd_look G h a with
  | some (.inl (t', n, .inr (.inr (.inr (.inr f))))) => if t' = t ∧ sd_ix i n = true then some (f i.toNatClampNeg, (0, 0), h) else none
  | _ => none
def sd_aldR (G : sd_G) (t a : Nat) (i : Int32) : sd_M Nat := fun h => match sd_look G h a with
  | some (.inl (t', n, .inr (.inr (.inr (.inr f))))) => if t' = t ∧ sd_ix i n = true then (match f i.toNatClampNeg with | some v => some (v, (0, 0), h) | none => none) else none
  | _ => none
def sd_alen (G : sd_G) (a : Nat) : sd_M Int32 := fun h => match sd_look G h a with
  | some (.inl x) => some (Int32.ofNat x.2.1, (0, 0), h)
  | _ => none
/-- what an array of type number t keeps of an int -/
def sd_nar (t : Nat) (x : Int32) : Int32 := if t = 2 then vp_nar .byte x else if t = 3 then vp_nar .boolean x else x
def sd_astI (t a : Nat) (i x : Int32) : sd_M Unit := fun h => match h.2 a with
  | some (.inl (t', n, .inl f)) => if t' = t ∧ sd_ix i n = true then some ((), (0, 0), sd_up h a (.inl (t, n, .inl (upd f i.toNatClampNeg (sd_nar t x))))) else none
  | _ => none
def sd_astL (a : Nat) (i : Int32) (x : Int64) : sd_M Unit := fun h => match h.2 a with
  | some (.inl (t', n, .inr (.inl f))) => if t' = 1 ∧ sd_ix i n = true then some ((), (0, 0), sd_up h a (.inl (1, n, .inr (.inl (vp_updL f i.toNatClampNeg x))))) else none
  | _ => none
/-- new arrays, at most a million places -/
def sd_newI (t : Nat) (n : Int32) : sd_M Nat := fun h => if ¬ n < 0 ∧ n.toNatClampNeg ≤ 1000000 then some (h.1, (1, n.toNatClampNeg), sd_pu h (.inl (t, n.toNatClampNeg, .inl (fun _ => 0)))) else none
def sd_newL (n : Int32) : sd_M Nat := fun h => if ¬ n < 0 ∧ n.toNatClampNeg ≤ 1000000 then some (h.1, (1, n.toNatClampNeg), sd_pu h (.inl (1, n.toNatClampNeg, .inr (.inl (fun _ => 0))))) else none
def sd_newQ (t : Nat) (n : Int32) : sd_M Nat := fun h => if ¬ n < 0 ∧ n.toNatClampNeg ≤ 1000000 then some (h.1, (1, n.toNatClampNeg), sd_pu h (.inl (t, n.toNatClampNeg, .inr (.inr (.inr (.inr (fun _ => none))))))) else none
/-- a loop's limit -/
def sd_FU : Nat := 1000000
