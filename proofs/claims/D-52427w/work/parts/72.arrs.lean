/-! ids of the array classes at the start -/
theorem ka_arr {s : State} {c comp : ClassId} {k : Class} {ty : FieldType} (hk : s.vm.classes[c]? = some k) (hkind : k.kind = .array comp ty) : ArrOfT s c ty := fun n z => ⟨fun _ h => (by cases h), k, hk, comp, hkind⟩
theorem ka_over {s : State} {args : Array Value} {C : String} (h : (Cond.arrayOver (.object C)).before args s = true) : ∃ cA, ArrOfT s cA (.object C) ∧ va_RA s cA (.object C) := by
  obtain ⟨comp, c, k, h1, -, h3, h4, h5⟩ := Cond.arrayOver_spec h
  exact ⟨c, ka_arr h3 h4, k, comp, h3, h4, h1, h5⟩
theorem ka_const {s : State} {args : Array Value} {t : Term} {nm : String} {ty : FieldType} (h1 : (Cond.exactly t nm).before args s = true) (h2 : (Cond.arrayOf t ty).before args s = true) : ∃ cA, ArrOfT s cA ty ∧ s.vm.findClass nm = some cA := by
  obtain ⟨a, c, ce9, k, ht, hc, hcell, hk, hst, hcls, -⟩ := Cond.exactly_spec h1
  obtain ⟨⟨-, k', hk', comp, hkind⟩, -⟩ := Cond.arrayOf_spec h2 ht hcell
  rw [hcls] at hk'
  exact ⟨c, ka_arr hk' hkind, hc⟩
theorem ka_prim {s : State} {args : Array Value} {ty : FieldType} (h : (Cond.arrayClass ty).before args s = true) : ∃ cA, ArrOfT s cA ty ∧ s.vm.findClass ("[" ++ ty.toString) = some cA := by
  obtain ⟨c, k, comp, h1, h2, h3⟩ := Cond.arrayClass_spec h
  exact ⟨c, ka_arr h2 h3, h1⟩
/-- any part of the Statement's start, by its place -/
theorem nr_at {args : Array Value} {s : State} (h : (Jvm.Cond.and given_1 narrow_1).before args s = true) (k : Cond) (hk : ∀ w ∈ flatC k, w ∈ flatC (Jvm.Cond.and given_1 narrow_1)) (i : Nat) {w : Cond} (hw : (flatC k)[i]? = some w) : w.before args s = true := flat_of_before _ h w (hk w (List.mem_of_getElem? hw))
