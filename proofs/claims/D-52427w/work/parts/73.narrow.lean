/-! the parts of the Statement's start -/
set_option maxRecDepth 100000
theorem nr_0 {a b w : Cond} (h : w ∈ flatC a ∨ w ∈ flatC b) : w ∈ flatC (Jvm.Cond.and a b) := List.mem_append.mpr h
theorem nr_n {w : Cond} (h : w ∈ flatC narrow_1) : w ∈ flatC (Jvm.Cond.and given_1 narrow_1) := nr_0 (Or.inr h)
theorem nr_1 : ∀ w ∈ flatC narrow_1_1, w ∈ flatC (Jvm.Cond.and given_1 narrow_1) := fun _ h => nr_n (nr_0 (Or.inl (nr_0 (Or.inl h))))
theorem nr_2 : ∀ w ∈ flatC narrow_1_2, w ∈ flatC (Jvm.Cond.and given_1 narrow_1) := fun _ h => nr_n (nr_0 (Or.inl (nr_0 (Or.inr (nr_0 (Or.inl h))))))
theorem nr_3 : ∀ w ∈ flatC narrow_1_3, w ∈ flatC (Jvm.Cond.and given_1 narrow_1) := fun _ h => nr_n (nr_0 (Or.inl (nr_0 (Or.inr (nr_0 (Or.inr h))))))
theorem nr_4 : ∀ w ∈ flatC narrow_1_4, w ∈ flatC (Jvm.Cond.and given_1 narrow_1) := fun _ h => nr_n (nr_0 (Or.inr (nr_0 (Or.inl (nr_0 (Or.inl h))))))
theorem nr_5 : ∀ w ∈ flatC narrow_1_5, w ∈ flatC (Jvm.Cond.and given_1 narrow_1) := fun _ h => nr_n (nr_0 (Or.inr (nr_0 (Or.inl (nr_0 (Or.inr h))))))
theorem nr_6 : ∀ w ∈ flatC narrow_1_6, w ∈ flatC (Jvm.Cond.and given_1 narrow_1) := fun _ h => nr_n (nr_0 (Or.inr (nr_0 (Or.inr (nr_0 (Or.inl h))))))
theorem nr_7 : ∀ w ∈ flatC narrow_1_7, w ∈ flatC (Jvm.Cond.and given_1 narrow_1) := fun _ h => nr_n (nr_0 (Or.inr (nr_0 (Or.inr (nr_0 (Or.inr h))))))
theorem nr_1_294 {args : Array Value} {s : State} (h : (Jvm.Cond.and given_1 narrow_1).before args s = true) : (Cond.exactly (.static "SofaDig$Craft" "ALL" "[LSofaDig$Craft;") "[LSofaDig$Craft;").before args s = true := nr_at h narrow_1_1 nr_1 294 (by decide +kernel)
