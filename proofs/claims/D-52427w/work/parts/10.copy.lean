/-! array copying, stores of references, branches on known numbers, instanceof -/
set_option maxRecDepth 100000
theorem q3453 : (Jvm.Cond.castable "SofaDig$Cushion" "java/lang/Object") ∈ lw_tbl := lw_at lw_m14 218 rfl
theorem q3460 : (Jvm.Cond.castable "SofaDig$Token" "java/lang/Object") ∈ lw_tbl := lw_at lw_m14 225 rfl
theorem q3467 : (Jvm.Cond.castable "SofaDig$Empire" "java/lang/Object") ∈ lw_tbl := lw_at lw_m14 232 rfl
theorem q3470 : (Jvm.Cond.castable "SofaDig$Find" "java/lang/Object") ∈ lw_tbl := lw_at lw_m14 235 rfl
theorem q3492 : (Jvm.Cond.castable "SofaDig$Order" "java/lang/Object") ∈ lw_tbl := lw_at lw_m15 17 rfl
theorem q3493 : (Jvm.Cond.castable "SofaDig$Several" "java/lang/Object") ∈ lw_tbl := lw_at lw_m15 18 rfl
theorem q3494 : (Jvm.Cond.castable "SofaDig$Denied" "java/lang/Object") ∈ lw_tbl := lw_at lw_m15 19 rfl
theorem q3495 : (Jvm.Cond.castable "SofaDig$Seen" "java/lang/Object") ∈ lw_tbl := lw_at lw_m15 20 rfl
theorem q3496 : (Jvm.Cond.castable "SofaDig$Sure" "java/lang/Object") ∈ lw_tbl := lw_at lw_m15 21 rfl
theorem q3497 : (Jvm.Cond.castable "SofaDig$Compared" "java/lang/Object") ∈ lw_tbl := lw_at lw_m15 22 rfl
theorem q3498 : (Jvm.Cond.castable "SofaDig$Test$1" "java/lang/Object") ∈ lw_tbl := lw_at lw_m15 23 rfl
theorem q3452 : (Jvm.Cond.castable "java/util/ArrayList" "java/lang/Object") ∈ lw_tbl := lw_at lw_m14 217 rfl
theorem q436 : (Jvm.Cond.native ({ cls := "java/lang/System", name := "arraycopy", desc := "(Ljava/lang/Object;ILjava/lang/Object;II)V" } : Jvm.MethodName)) ∈ lw_all := lw_g (lw_at lw_m2 81 rfl) rfl
theorem q435 : (Jvm.Cond.static ({ cls := "java/lang/System", name := "arraycopy", desc := "(Ljava/lang/Object;ILjava/lang/Object;II)V" } : Jvm.MethodName)) ∈ lw_all := lw_g (lw_at lw_m2 80 rfl) rfl
theorem q126 : (Jvm.Cond.initialized "java/lang/System") ∈ lw_all := lw_g (lw_at lw_m1 11 rfl) rfl
theorem sd_may7 {t ci : Nat} (h : sd_may t ci = true) : t < 7 := by
  unfold sd_may at h
  split at h
  · omega
  · split at h
    · omega
    · cases h
theorem sd_may_ok {t ci : Nat} {r : vw_C} (h : sd_may t ci = true) (hc : sd_cl[ci]? = some r) : (t = 4 ∧ Cond.castable r.1 "java/lang/Object" ∈ lw_tbl) ∨ (t = 5 ∧ r.1 = "java/util/HashMap$Node") := by
  unfold sd_may at h
  split at h
  · next h4 =>
    refine Or.inl ⟨h4, ?_⟩
    have h := of_decide_eq_true h
    simp only [List.mem_cons, List.not_mem_nil, or_false] at h
    rcases h with rfl | rfl | rfl | rfl | rfl | rfl | rfl | rfl | rfl | rfl | rfl | rfl
    · cases hc; exact q3453
    · cases hc; exact q3460
    · cases hc; exact q3467
    · cases hc; exact q3470
    · cases hc; exact q3492
    · cases hc; exact q3493
    · cases hc; exact q3494
    · cases hc; exact q3495
    · cases hc; exact q3496
    · cases hc; exact q3497
    · cases hc; exact q3498
    · cases hc; exact q3452
  · split at h
    · next h5 =>
      have h := of_decide_eq_true h
      subst h
      cases hc
      exact Or.inr ⟨h5, rfl⟩
    · cases h
/-- an object of the class may be put where the array's component is -/
theorem sd_may_asg {G : sd_G} {s : State} {t ci : Nat} {E : String} {r : vw_C} {comp : ClassId} (hK : sd_K G s) (h : sd_may t ci = true) (hc : sd_cl[ci]? = some r) (ht : sd_ty[t]? = some (.object E)) (hcomp : s.vm.findClass E = some comp) : s.vm.assignable ((sd_D G).1 ci) comp = true := by
  have hf := (hK.1 ci r hc).1
  rcases sd_may_ok h hc with ⟨rfl, q⟩ | ⟨rfl, q⟩
  · cases ht
    obtain ⟨c0, t0, f1, f2, f3⟩ := Cond.castable_spec (va_Nw.use (A := #[]) rfl (hK.2.2.1 _ q rfl))
    cases Option.some.inj (f1.symm.trans hf)
    cases Option.some.inj (f2.symm.trans hcomp)
    exact f3
  · cases ht
    rw [q] at hf
    cases Option.some.inj (hf.symm.trans hcomp)
    exact va_asg _ _
section SJO
variable {Y : sd_Y} {X : sd_X} {pc : Nat} {L : List (Nat × Value)} {st : List Value} {h : sd_H} {c : Nat × Nat} {α : Type} {ρ : α} {h2 : sd_H}
theorem sd_astQ_some {G : sd_G} {t a : Nat} {i : Int32} {v : Option Nat} {u : Unit} {c1 : Nat × Nat} {h h1 : sd_H} (e : sd_astQ G t a i v h = some (u, c1, h1)) : c1 = (0, 0) ∧ ∃ n f, h.2 a = some (.inl (t, n, .inr (.inr (.inr (.inr f))))) ∧ sd_ix i n = true ∧ h1 = sd_up h a (.inl (t, n, .inr (.inr (.inr (.inr (va_up f i.toNatClampNeg v)))))) ∧ ∀ y, v = some y → ∃ o, sd_look G h y = some (.inr o) ∧ sd_may t o.1 = true := by
  unfold sd_astQ at e
  split at e
  · next t' n f he =>
    split at e
    · next hc =>
      cases e
      refine ⟨rfl, n, f, by rw [he, hc.1], hc.2.1, rfl, ?_⟩
      intro y hy
      subst hy
      exact sd_okQ_some hc.2.2
    · cases e
  · cases e
theorem sj_aast {K : Unit → sd_M α} {a t v : Nat} {E : String} {i : Int32} (ht : sd_ty[t]? = some (.object E)) (_hrf : (FieldType.object E).isReference = true) (hf : sd_bnd (sd_astQ X.1.2 t a i (some v)) K h = some (ρ, c, h2)) (d : decode Y.2.1 pc = .ok (.aastore, 1)) (kk : ∀ h1, K () h1 = some (ρ, c, h2) → sd_J Y X (pc + 1) L st h1 c) : sd_J Y X pc L (.ref v :: .int i :: .ref a :: st) h c := by
  obtain ⟨u, c1, c2, h1, e1, e2, rfl⟩ := sd_bnd_some hf
  obtain ⟨rfl, n, f, he, hi, rfl, hy⟩ := sd_astQ_some e1
  obtain ⟨o, ho, hmay⟩ := hy v rfl
  simp only [Nat.zero_add] at kk ⊢
  intro p e s m below meth cd ls H locs cells slots C hR hz hl b1 b2
  have hK := C.2.2.2.2.2.2.2.2.2
  obtain ⟨z1, cell, q1, q2, q3, q4, q5⟩ := sd_arrW hK hR he ht
  obtain ⟨-, cv, v1, v2, v3, v4, v5, r, hc, -⟩ := hR.look ho
  have q6 := q5
  obtain ⟨g1, g2, g3, g4, -⟩ := q6
  have g4 : cell.cls = sd_A X.1.2 t := g4.resolve_right (fun q => by have q0 : t = 0 := q.1; rw [q0] at ht; cases ht)
  obtain ⟨kA, comp, w1, w2, w3, w4⟩ := (hK.2.1 t _ ht).2 (sd_may7 hmay)
  obtain ⟨kcomp, hkc, -⟩ := Vm.findClass_spec w3
  have hfv := (hK.1 o.1 r hc).1
  obtain ⟨kv, hkv, -⟩ := Vm.findClass_spec hfv
  refine W.aast C.1 C.2.1 q1 (fun k z => by rw [z] at g2; cases g2) q2 (by rw [g4]; exact w1) w2 rfl hkc ⟨fun z => sd_ix_in hi (Or.inl z), by rw [q4]; exact sd_ix_lt hi⟩ v1 (fun k z => by rw [z] at v3; cases v3) (by rw [v5]; exact hkv) (by rw [v5]; exact sd_may_asg hK hmay hc ht w3) rfl rfl d fun H1 x1 x2 x3 => ?_
  exact kk _ e2 p e s m below meth cd ls H1 _ cells slots C (hR.put he x1 x2 x3 (sd_at_set q5 (sd_ix_lt hi) rfl (by simp [sd_sv, va_up, va_rf]) (fun j hj => by simp [sd_sv, va_up, hj]))) (sd_locs hz z1) hl b1 b2
theorem sj_aastQ {K : Unit → sd_M α} {a t : Nat} {E : String} {i : Int32} (ht : sd_ty[t]? = some (.object E)) (_hrf : (FieldType.object E).isReference = true) (hf : sd_bnd (sd_astQ X.1.2 t a i none) K h = some (ρ, c, h2)) (d : decode Y.2.1 pc = .ok (.aastore, 1)) (kk : ∀ h1, K () h1 = some (ρ, c, h2) → sd_J Y X (pc + 1) L st h1 c) : sd_J Y X pc L (va_rf none :: .int i :: .ref a :: st) h c := by
  obtain ⟨u, c1, c2, h1, e1, e2, rfl⟩ := sd_bnd_some hf
  obtain ⟨rfl, n, f, he, hi, rfl, -⟩ := sd_astQ_some e1
  simp only [Nat.zero_add] at kk ⊢
  intro p e s m below meth cd ls H locs cells slots C hR hz hl b1 b2
  have hK := C.2.2.2.2.2.2.2.2.2
  obtain ⟨z1, cell, q1, q2, q3, q4, q5⟩ := sd_arrW hK hR he ht
  refine va_WaastN (C := E) C.1 C.2.1 q1 q3 q2 (by rw [q4]; exact sd_ix_in hi) rfl rfl d fun H1 x1 x2 x3 => ?_
  exact kk _ e2 p e s m below meth cd ls H1 _ cells slots C (hR.put he x1 x2 x3 (sd_at_set q5 (sd_ix_lt hi) rfl (by simp [sd_sv, va_up, va_rf]) (fun j hj => by simp [sd_sv, va_up, hj]))) (sd_locs hz z1) hl b1 b2
/-! copying -/
theorem sd_pairs (at_ : Nat) : ∀ (xs : List Value) (i : Nat) (ce9 : Cell), (ce9.storePairs at_ (xs.zipIdx i)).cls = ce9.cls ∧ (ce9.storePairs at_ (xs.zipIdx i)).vm = ce9.vm ∧ (ce9.storePairs at_ (xs.zipIdx i)).slots.size = ce9.slots.size ∧ ∀ k, k < ce9.slots.size → (ce9.storePairs at_ (xs.zipIdx i)).slots[k]? = if at_ + i ≤ k ∧ k < at_ + i + xs.length then some (xs.getD (k - (at_ + i)) .null) else ce9.slots[k]?
  | [], i, ce9 => by
    refine ⟨rfl, rfl, rfl, fun k hk => ?_⟩
    rw [if_neg (by simp only [List.length_nil]; omega)]
    rfl
  | x :: xs, i, ce9 => by
    rw [List.zipIdx_cons]
    obtain ⟨h1, h2, h3, h4⟩ := sd_pairs at_ xs (i + 1) (ce9.setSlot (at_ + i) x)
    show ((ce9.setSlot (at_ + i) x).storePairs at_ (xs.zipIdx (i + 1))).cls = _ ∧ ((ce9.setSlot (at_ + i) x).storePairs at_ (xs.zipIdx (i + 1))).vm = _ ∧ ((ce9.setSlot (at_ + i) x).storePairs at_ (xs.zipIdx (i + 1))).slots.size = _ ∧ ∀ k, k < ce9.slots.size → ((ce9.setSlot (at_ + i) x).storePairs at_ (xs.zipIdx (i + 1))).slots[k]? = _
    refine ⟨h1, h2, h3.trans (k2_slotsz _ _ _), fun k hk => ?_⟩
    rw [h4 k (by rw [k2_slotsz]; exact hk), sd_slots_set]
    by_cases hk2 : k = at_ + i
    · subst hk2
      rw [if_neg (by omega), if_pos rfl, if_pos hk, if_pos (by simp only [List.length_cons]; omega)]
      simp
    · by_cases h : at_ + (i + 1) ≤ k ∧ k < at_ + (i + 1) + xs.length
      · rw [if_pos h, if_pos (by simp only [List.length_cons]; omega)]
        have e : k - (at_ + i) = (k - (at_ + (i + 1))) + 1 := by omega
        rw [e, List.getD_cons_succ]
      · rw [if_neg h, if_neg (fun z => hk2 z.symm), if_neg (by simp only [List.length_cons]; omega)]
theorem sd_copied {cs cd : Cell} {sp dp n : Int32} (h4 : sp.toNatClampNeg + n.toNatClampNeg ≤ cs.slots.size) : (copied cs cd sp dp n).cls = cd.cls ∧ (copied cs cd sp dp n).vm = cd.vm ∧ (copied cs cd sp dp n).slots.size = cd.slots.size ∧ ∀ k, k < cd.slots.size → (copied cs cd sp dp n).slots[k]? = if dp.toNatClampNeg ≤ k ∧ k < dp.toNatClampNeg + n.toNatClampNeg then cs.slots[sp.toNatClampNeg + (k - dp.toNatClampNeg)]? else cd.slots[k]? := by
  obtain ⟨h1, h2, h3, h5⟩ := sd_pairs dp.toNatClampNeg (cs.stretch sp.toNatClampNeg n.toNatClampNeg) 0 cd
  have hlen : (cs.stretch sp.toNatClampNeg n.toNatClampNeg).length = n.toNatClampNeg := by simp [Cell.stretch]
  refine ⟨h1, h2, h3, fun k hk => ?_⟩
  have h6 := h5 k hk
  rw [hlen] at h6
  simp only [Nat.add_zero] at h6
  refine Eq.trans h6 ?_
  by_cases hc : dp.toNatClampNeg ≤ k ∧ k < dp.toNatClampNeg + n.toNatClampNeg
  · rw [if_pos hc, if_pos hc]
    unfold Cell.stretch
    rw [List.getD_eq_getElem?_getD, List.getElem?_map, List.getElem?_range (by omega)]
    simp only [Option.map_some, Option.getD_some]
    rw [Array.getD_eq_getD_getElem?, Array.getElem?_eq_getElem (by omega)]
    rfl
  · rw [if_neg hc, if_neg hc]
theorem sd_nnI {z : Int32} (hz : ¬ z < 0) : z.toInt = (z.toNatClampNeg : Int) := by
  have hz0 : (0 : Int) ≤ z.toInt := by
    have := Int32.not_lt.mp hz
    simpa using Int32.le_iff_toInt_le.mp this
  show z.toInt = ((z.toInt.toNat : Nat) : Int)
  omega
/-- the machine's copy, seen from the abstract heap -/
theorem sj_copy {a0 a t index : Nat} {ty : FieldType} {x0 x1 x2 : vp_A} {sp dp n : Int32} (q1 : Cond.methodLink Y.1.cls index arraycopyName ∈ lw_all) (q2 : Cond.native arraycopyName ∈ lw_all) (q3 : Cond.static arraycopyName ∈ lw_all) (q4 : Cond.initialized "java/lang/System" ∈ lw_all) (ht : sd_ty[t]? = some ty)
    (he0 : sd_look X.1.2 h a0 = some (.inl (t, x0))) (he1 : h.2 a = some (.inl (t, x1))) (h1 : ¬ sp < 0) (h3 : ¬ dp < 0) (h5 : ¬ n < 0) (h4 : sp.toNatClampNeg + n.toNatClampNeg ≤ x0.1) (h6 : dp.toNatClampNeg + n.toNatClampNeg ≤ x1.1) (hx2 : x2.1 = x1.1) (hv : ∀ k, k < x1.1 → sd_sv x2 k = if dp.toNatClampNeg ≤ k ∧ k < dp.toNatClampNeg + n.toNatClampNeg then sd_sv x0 (sp.toNatClampNeg + (k - dp.toNatClampNeg)) else sd_sv x1 k)
    (hfit : ∀ i, i < n.toNatClampNeg → fits ty (sd_sv x0 (sp.toNatClampNeg + i)) = true ∧ ∀ y, sd_sv x0 (sp.toNatClampNeg + i) = .ref y → ∃ E, ty = .object E ∧ ∃ o, sd_look X.1.2 h y = some (.inr o) ∧ sd_may t o.1 = true)
    (hfr : 1 ≤ X.2.1.1) (hlo : (st.map fun v => v.category).sum + 18 ≤ X.2.1.2) (d : decode Y.2.1 pc = .ok (.invokestatic index, 3)) (kk : sd_J Y X (pc + 3) L st (sd_up h a (.inl (t, x2))) c) : sd_J Y X pc L (.int n :: .int dp :: .ref a :: .int sp :: .ref a0 :: st) h c := by
  intro p e s m below meth cd ls H locs cells slots C hR hz hl b1 b2
  have hK := C.2.2.2.2.2.2.2.2.2
  obtain ⟨cs, w1, w2, w3, w4, w5⟩ := sd_arr hK hR he0 ht
  obtain ⟨z1, cell, v1, v2, v3, v4, v5⟩ := sd_arrW hK hR he1 ht
  obtain ⟨w6, ks, hks, sComp, hsk⟩ := w3
  obtain ⟨v6, kd, hkd, dComp, hdk⟩ := v3
  intro T hT S
  obtain ⟨vm', S', step⟩ := S.arraycopy C.1 C.2.2.2.2.1 (C.2.2.2.2.2.1 _ q1) (C.2.2.2.2.2.1 _ q2) (C.2.2.2.2.2.1 _ q3) (C.2.2.2.2.2.1 _ q4) (src := a0) (dst := a) (cs := cs) (cd := cell) (srcPos := sp) (destPos := dp) (n := n) (by rw [hT]; exact w1) (by rw [hT]; exact v1)
    w6 v6 w2 v2 hks hkd hsk hdk (by simp) h1 h3 h5 (by rw [sd_nnI h1, sd_nnI h5]; omega) (by rw [sd_nnI h3, sd_nnI h5]; omega)
    (fun vm₁ hal i hi => by
      have e1 : cs.slots.getD (sp.toNatClampNeg + i) .null = sd_sv x0 (sp.toNatClampNeg + i) := by
        rw [Array.getD_eq_getD_getElem?, w5 _ (by omega)]
        rfl
      rw [e1]
      obtain ⟨f1, f2⟩ := hfit i hi
      refine ⟨f1, ?_⟩
      cases hval : sd_sv x0 (sp.toNatClampNeg + i) with
      | ref y =>
        obtain ⟨E, rfl, o, ho, hmay⟩ := f2 y hval
        obtain ⟨-, cv, u1, u2, u3, u4, u5, r, hc, -⟩ := hR.look ho
        obtain ⟨kA, comp, y1, y2, y3, y4⟩ := (hK.2.1 t _ ht).2 (sd_may7 hmay)
        have hcd : cell.cls = sd_A X.1.2 t := v5.2.2.2.1.resolve_right (fun q => by have q0 : t = 0 := q.1; rw [q0] at ht; cases ht)
        rw [hcd] at hkd
        have e9 := hkd.symm.trans y1
        cases e9
        have e8 := hdk.symm.trans y2
        cases e8
        have hfv := (hK.1 o.1 r hc).1
        obtain ⟨kv, hkv, -⟩ := Vm.findClass_spec hfv
        obtain ⟨kc, hkc, -⟩ := Vm.findClass_spec y3
        obtain ⟨k8, hk8, -⟩ := hal.2.2 _ _ hkv
        obtain ⟨k9, hk9, -⟩ := hal.2.2 _ _ hkc
        refine ⟨cv, (by show T.heap[y]? = _; rw [hT]; exact u1), (fun k z => by rw [z] at u3; cases u3), ⟨k8, (by rw [u5]; exact hk8)⟩, ⟨k9, hk9⟩, ?_⟩
        show vm₁.assignable _ _ = true
        rw [hal.assignable, u5]
        exact sd_may_asg hK hmay hc ht y3
      | _ => exact trivial)
    (g := F0 m pc ls (.int n :: .int dp :: .ref a :: .int sp :: .ref a0 :: st)) rfl (hl.1.trans C.2.2.2.1.symm) (rest := st) rfl (sd_dec (index := 0) C.2.1 d) hfr (by show 2 * 0 + _ + (nativeFrameWords "java/lang/System" "arraycopy" 5 + 11) ≤ X.2.1.2; rw [show nativeFrameWords "java/lang/System" "arraycopy" 5 = 7 by decide]; omega)
  obtain ⟨g1, g2, g3, g4⟩ := sd_copied (cs := cs) (cd := cell) (sp := sp) (dp := dp) (n := n) (by omega)
  have hla : a < H.size := (Array.getElem?_eq_some_iff.mp v1).1
  have hheap : ((T.setVm vm').setCell a (copied cs cell sp dp n)).heap = H.setIfInBounds a (copied cs cell sp dp n) := by rw [← hT]; rfl
  obtain ⟨y1, y2, y3, y4, y5, y6, y7⟩ := v5
  have hat : sd_at X.1.2 a (.inl (t, x2)) (copied cs cell sp dp n) := by
    refine ⟨by rw [g2]; exact y1, by rw [g2]; exact y2, fun z => by rw [g2]; exact y3 z, by rw [g1]; exact y4, y5, by rw [g3, hx2]; exact y6, fun j hj => ?_⟩
    rw [hx2] at hj
    rw [g4 j (by rw [v4]; exact hj), hv j hj]
    by_cases hc : dp.toNatClampNeg ≤ j ∧ j < dp.toNatClampNeg + n.toNatClampNeg
    · rw [if_pos hc, if_pos hc, w5 _ (by omega)]
    · rw [if_neg hc, if_neg hc, y7 j hj]
  obtain ⟨t9, a1, b9⟩ := kk p e s m below meth cd ls _ _ cells slots C (hR.put he1 (show (H.setIfInBounds a _)[a]? = some _ by simp [Array.getElem?_setIfInBounds, hla]) (by simp) (fun q hq => by simp [Array.getElem?_setIfInBounds, Ne.symm hq]) hat) (fun z hz' => by
      rcases List.mem_append.mp hz' with z9 | z9
      · exact hz z z9
      · obtain ⟨y, -, hy⟩ := List.mem_map.mp z9
        rw [← hy]
        exact z1) hl b1 b2 _ hheap S'
  exact ⟨t9, step t9 a1, b9⟩
/-- copying ints (t = 0) or bytes (t = 2) -/
def sd_cpI (G : sd_G) (t a0 : Nat) (sp : Int32) (a : Nat) (dp n : Int32) : sd_M Unit := fun h => match sd_look G h a0, h.2 a with
  | some (.inl (t0, n0, .inl f)), some (.inl (t1, n1, .inl g)) => if t0 = t ∧ t1 = t ∧ ¬ sp < 0 ∧ ¬ dp < 0 ∧ ¬ n < 0 ∧ sp.toNatClampNeg + n.toNatClampNeg ≤ n0 ∧ dp.toNatClampNeg + n.toNatClampNeg ≤ n1 ∧ (t = 0 ∨ (t = 2 ∧ (List.range n.toNatClampNeg).all (fun i => fits .byte (.int (f (sp.toNatClampNeg + i)))) = true)) then some ((), (0, 0), sd_up h a (.inl (t, n1, .inl (va_cpy f g sp.toNatClampNeg dp.toNatClampNeg n.toNatClampNeg)))) else none
  | _, _ => none
/-- copying references between arrays of objects -/
def sd_cpQ (G : sd_G) (t a0 : Nat) (sp : Int32) (a : Nat) (dp n : Int32) : sd_M Unit := fun h => match sd_look G h a0, h.2 a with
  | some (.inl (t0, n0, .inr (.inr (.inr (.inr f))))), some (.inl (t1, n1, .inr (.inr (.inr (.inr g))))) => if t0 = t ∧ t1 = t ∧ ¬ sp < 0 ∧ ¬ dp < 0 ∧ ¬ n < 0 ∧ sp.toNatClampNeg + n.toNatClampNeg ≤ n0 ∧ dp.toNatClampNeg + n.toNatClampNeg ≤ n1 ∧ (List.range n.toNatClampNeg).all (fun i => sd_okQ G h t (f (sp.toNatClampNeg + i))) = true then some ((), (0, 0), sd_up h a (.inl (t, n1, .inr (.inr (.inr (.inr (va_cpy f g sp.toNatClampNeg dp.toNatClampNeg n.toNatClampNeg))))))) else none
  | _, _ => none
theorem sj_cpI {K : Unit → sd_M α} {a0 a t index : Nat} {sp dp n : Int32} (q1 : Cond.methodLink Y.1.cls index arraycopyName ∈ lw_all) (hfr : 1 ≤ X.2.1.1) (hlo : (st.map fun v => v.category).sum + 18 ≤ X.2.1.2) (hf : sd_bnd (sd_cpI X.1.2 t a0 sp a dp n) K h = some (ρ, c, h2)) (d : decode Y.2.1 pc = .ok (.invokestatic index, 3)) (kk : ∀ h1, K () h1 = some (ρ, c, h2) → sd_J Y X (pc + 3) L st h1 c) : sd_J Y X pc L (.int n :: .int dp :: .ref a :: .int sp :: .ref a0 :: st) h c := by
  obtain ⟨u, c1, c2, h1, e1, e2, rfl⟩ := sd_bnd_some hf
  unfold sd_cpI at e1
  split at e1
  · next t0 n0 f t1 n1 g he0 he1 =>
    split at e1
    · next hc =>
      obtain ⟨rfl, rfl, z1, z2, z3, z4, z5, z6⟩ := hc
      cases e1
      simp only [Nat.zero_add] at kk ⊢
      rcases z6 with rfl | ⟨rfl, z6⟩
      · exact sj_copy (x2 := (n1, .inl (va_cpy f g sp.toNatClampNeg dp.toNatClampNeg n.toNatClampNeg))) q1 q436 q435 q126 (show sd_ty[0]? = some .int from rfl) he0 he1 z1 z2 z3 z4 z5 rfl (fun k _ => by simp only [sd_sv, va_cpy]; split <;> rfl) (fun i hi => ⟨rfl, fun y hy => by cases hy⟩) hfr hlo d (kk _ e2)
      · exact sj_copy (x2 := (n1, .inl (va_cpy f g sp.toNatClampNeg dp.toNatClampNeg n.toNatClampNeg))) q1 q436 q435 q126 (show sd_ty[2]? = some .byte from rfl) he0 he1 z1 z2 z3 z4 z5 rfl (fun k _ => by simp only [sd_sv, va_cpy]; split <;> rfl) (fun i hi => ⟨List.all_eq_true.mp z6 i (List.mem_range.mpr hi), fun y hy => by cases hy⟩) hfr hlo d (kk _ e2)
    · cases e1
  · cases e1
theorem sj_cpQ {K : Unit → sd_M α} {a0 a t index : Nat} {E : String} {sp dp n : Int32} (ht : sd_ty[t]? = some (.object E)) (q1 : Cond.methodLink Y.1.cls index arraycopyName ∈ lw_all) (hfr : 1 ≤ X.2.1.1) (hlo : (st.map fun v => v.category).sum + 18 ≤ X.2.1.2) (hf : sd_bnd (sd_cpQ X.1.2 t a0 sp a dp n) K h = some (ρ, c, h2)) (d : decode Y.2.1 pc = .ok (.invokestatic index, 3)) (kk : ∀ h1, K () h1 = some (ρ, c, h2) → sd_J Y X (pc + 3) L st h1 c) : sd_J Y X pc L (.int n :: .int dp :: .ref a :: .int sp :: .ref a0 :: st) h c := by
  obtain ⟨u, c1, c2, h1, e1, e2, rfl⟩ := sd_bnd_some hf
  unfold sd_cpQ at e1
  split at e1
  · next t0 n0 f t1 n1 g he0 he1 =>
    split at e1
    · next hc =>
      obtain ⟨rfl, rfl, z1, z2, z3, z4, z5, z6⟩ := hc
      cases e1
      simp only [Nat.zero_add] at kk ⊢
      refine sj_copy (x2 := (n1, .inr (.inr (.inr (.inr (va_cpy f g sp.toNatClampNeg dp.toNatClampNeg n.toNatClampNeg)))))) q1 q436 q435 q126 ht he0 he1 z1 z2 z3 z4 z5 rfl (fun k _ => by simp only [sd_sv, va_cpy]; split <;> rfl) (fun i hi => ?_) hfr hlo d (kk _ e2)
      have z7 := List.all_eq_true.mp z6 i (List.mem_range.mpr hi)
      simp only [sd_sv]
      cases hv : f (sp.toNatClampNeg + i) with
      | none => exact ⟨rfl, fun y hy => by cases hy⟩
      | some w =>
        refine ⟨rfl, fun y hy => ?_⟩
        cases hy
        rw [hv] at z7
        obtain ⟨o, ho, hm⟩ := sd_okQ_some z7
        exact ⟨E, rfl, o, ho, hm⟩
    · cases e1
  · cases e1
/-! branches on a known number -/
theorem sj_ifeqT {x : Int32} {off : Int} (tgt : Nat) (hx : x = 0) (d : decode Y.2.1 pc = .ok (.ifCond .eq off, 3)) (ht : (pc : Int) + off = (tgt : Int)) (k : sd_J Y X tgt L st h c) : sd_J Y X pc L (.int x :: st) h c := fun p e s m below meth cd ls H locs cells slots C hR hz hl b1 b2 => lv_if_eq C.1 C.2.1 d ht (fun _ => k p e s m below meth cd ls H locs cells slots C hR hz hl b1 b2) (fun z => absurd hx z)
theorem sj_ifeqN {x : Int32} {off : Int} (tgt : Nat) (hx : ¬ x = 0) (d : decode Y.2.1 pc = .ok (.ifCond .eq off, 3)) (ht : (pc : Int) + off = (tgt : Int)) (k : sd_J Y X (pc + 3) L st h c) : sd_J Y X pc L (.int x :: st) h c := fun p e s m below meth cd ls H locs cells slots C hR hz hl b1 b2 => lv_if_eq C.1 C.2.1 d ht (fun z => absurd z hx) (fun _ => k p e s m below meth cd ls H locs cells slots C hR hz hl b1 b2)
theorem sj_ifneT {x : Int32} {off : Int} (tgt : Nat) (hx : ¬ x = 0) (d : decode Y.2.1 pc = .ok (.ifCond .ne off, 3)) (ht : (pc : Int) + off = (tgt : Int)) (k : sd_J Y X tgt L st h c) : sd_J Y X pc L (.int x :: st) h c := fun p e s m below meth cd ls H locs cells slots C hR hz hl b1 b2 => lv_if_ne C.1 C.2.1 d ht (fun _ => k p e s m below meth cd ls H locs cells slots C hR hz hl b1 b2) (fun z => absurd z hx)
theorem sj_ifneN {x : Int32} {off : Int} (tgt : Nat) (hx : x = 0) (d : decode Y.2.1 pc = .ok (.ifCond .ne off, 3)) (ht : (pc : Int) + off = (tgt : Int)) (k : sd_J Y X (pc + 3) L st h c) : sd_J Y X pc L (.int x :: st) h c := fun p e s m below meth cd ls H locs cells slots C hR hz hl b1 b2 => lv_if_ne C.1 C.2.1 d ht (fun z => absurd hx z) (fun _ => k p e s m below meth cd ls H locs cells slots C hR hz hl b1 b2)
/-- instanceof: the object's own class -/
theorem sj_instE {ci index a : Nat} {fs : List Value} {q : vw_C} (he : sd_look X.1.2 h a = some (.inr (ci, fs))) (hc : sd_cl[ci]? = some q) (hq : Cond.classLink Y.1.cls index q.1 ∈ lw_all) (d : decode Y.2.1 pc = .ok (.instanceof index, 3)) (k : sd_J Y X (pc + 3) L (.int 1 :: st) h c) : sd_J Y X pc L (.ref a :: st) h c := by
  intro p e s m below meth cd ls H locs cells slots C hR hz hl b1 b2
  exact va_instE C.1 C.2.1 C.2.2.2.2.1 (C.2.2.2.2.2.1 _ hq) (sd_recv C.2.2.2.2.2.2.2.2.2 hR he hc) d (k p e s m below meth cd ls H locs cells slots C hR hz hl b1 b2)
theorem sj_ldcSw {index : Nat} (j : Nat) {tx : String} {n : Nat} (hj : sd_strs[j]? = some (Y.1.cls, index, tx, n)) (d : decode Y.2.1 pc = .ok (.ldc_w index, 3)) (k : sd_J Y X (pc + 3) L (.ref (sd_ad X.1.2 n) :: st) h c) : sd_J Y X pc L st h c := by
  intro p e s m below meth cd ls H locs cells slots C hR hz hl b1 b2 T hT S
  obtain ⟨t, a1, b9⟩ := k p e s m below meth cd ls H locs cells slots C hR hz hl b1 b2 T hT S
  have hZ := C.2.2.2.2.2.2.2.2.2.2.2.2.2.1 _ (List.mem_of_getElem? hj)
  exact ⟨t, S.ldcStringW C.1 C.2.2.2.2.1 (text := tx) (a := sd_ad X.1.2 n) hZ.1 hZ.2 (g := F0 m pc ls st) rfl (sd_dec (index := 0) C.2.1 d) t a1, b9⟩
end SJO
