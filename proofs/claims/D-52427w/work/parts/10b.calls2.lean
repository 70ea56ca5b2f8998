/-! more calls: inherited and overriding methods, super, interfaces; class objects; instanceof that fails -/
section SJP
variable {Y : sd_Y} {X : sd_X} {pc : Nat} {L : List (Nat × Value)} {st : List Value} {h : sd_H} {c : Nat × Nat} {α : Type} {ρ : α} {h2 : sd_H}
theorem sd_C.K {p : Program} {s : State} {m : MethodId} {meth : Method} {cd : Code} (C : sd_C Y X p s m meth cd) : sd_K X.1.2 s := C.2.2.2.2.2.2.2.2.2
/-- by the receiver's class, a method of a class above or one that overrides -/
theorem sj_runU {index n a ci : Nat} {owner : String} {x : MethodName} {st rest As fs : List Value} {q : vw_C} {Y1 : sd_Y} {X1 : sd_X} (hM : sd_Met Y1 X1 h) (he : sd_look X.1.2 h a = some (.inr (ci, fs))) (hc : sd_cl[ci]? = some q) (h1 : X1.1 = X.1) (hh : Y1.2.2.2.2 = none) (q1 : Cond.methodLink Y.1.cls index x ∈ lw_all) (q2 : Cond.sameMethod x.cls owner x.name x.desc ∈ lw_all) (q3 : Cond.selects q.1 x Y1.1 ∈ lw_all) (q4 : Cond.instanceMethod Y1.1 ∈ lw_all) (q5 : Cond.initialized Y1.1.cls ∈ lw_all) (q6 : Cond.code Y1.1 Y1.2.1 Y1.2.2.1 Y1.2.2.2.1 ∈ lw_all) (hdc : Y1.1 = ⟨owner, x.name, x.desc⟩ ∨ Cond.declares ⟨owner, x.name, x.desc⟩ ∈ lw_tbl ∨ ∃ (b0 : ByteArray) (m0 : Nat) (r0 : Option FieldType), Cond.instanceMethod ⟨owner, x.name, x.desc⟩ ∈ lw_all ∧ Cond.code ⟨owner, x.name, x.desc⟩ b0 m0 r0 ∈ lw_all) (hn : sd_nm ⟨owner, x.name, x.desc⟩ n = true) (ha : X1.2.2.1 = .ref a :: As) (hl : As.length = n) (ho : ∀ q, X1.2.2.2.1.1 ≠ .inr q) (hok : sd_ok Y1 X1 X) (hst : st = As.reverse ++ .ref a :: rest) (hW : (rest.map fun v => v.category).sum ≤ 8) (d : decode Y.2.1 pc = .ok (.invokevirtual index, 3)) : sd_Cl Y X 3 pc L st rest h X1.2.2.2.1.1 X1.2.2.2.1.2 X1.2.2.2.2 := by
  refine sd_behind (X1 := X1) (av := X1.2.2.1.toArray) h1 ?_
  intro p e s m below meth cd ls H locs cells slots C hR hl2 b1 b2
  have hM := sd_Met_of hM ho
  have hw : sd_ws Y1 = ws_ Y1.1 Y1.2.1 Y1.2.2.1 Y1.2.2.2.1 := by unfold sd_ws; rw [hh]
  rw [hw] at hM
  rw [show X1.1.1 = X.1.1 by rw [h1]] at hM
  have hp := sd_pre (X1 := X1) (by rw [h1]) C.K hR
  rw [ha] at hp hM ⊢
  have hv := sd_recv C.K hR he hc
  have hg : GoodIn lw_all (va_wsU Y.1.cls index q.1 owner x Y1.1 (ws_ Y1.1 Y1.2.1 Y1.2.2.1 Y1.2.2.2.1)) := lw_app (fun w hw => by
    simp only [List.mem_cons, List.not_mem_nil, or_false] at hw
    rcases hw with e | e | e | e | e
    · rw [e]; exact q1
    · rw [e]; exact q2
    · rw [e]; exact q3
    · rw [e]; exact q4
    · rw [e]; exact q5) (lw_meth q6)
  have hcu : va_CU (sd_rm X) s X.2.2.1.toArray Y.1.cls q.1 owner index x Y1.1 Y1.2.1 Y1.2.2.1 Y1.2.2.2.1 (ws_ Y1.1 Y1.2.1 Y1.2.2.1 Y1.2.2.2.1) (sd_rm X1) X1.2.2.2.2.1 X1.2.2.2.2.2 n := by
    rcases hdc with z | z | ⟨b0, m0, r0, z1, z2⟩
    · exact va_cwU n C.2.2.2.2.2.1 hg rfl rfl rfl z (sd_nm_ok hn) hok
    · exact va_cwA n C.2.2.2.2.2.1 hg rfl rfl rfl (C.K.2.2.1 _ z rfl) (sd_nm_ok hn) hok
    · refine va_cwO n C.2.2.2.2.2.1 (lw_app (fun w hw => ?_) (lw_meth q6)) rfl rfl rfl z2 (sd_nm_ok hn) hok
      simp only [List.mem_cons, List.not_mem_nil, or_false] at hw
      rcases hw with e | e | e | e | e | e
      · rw [e]; exact q1
      · rw [e]; exact q2
      · rw [e]; exact z1
      · rw [e]; exact q3
      · rw [e]; exact q4
      · rw [e]; exact q5
  exact fun T hT S => Or.inl (va_runU (n := n) (g := F0 m pc ls st) (b := a) (As := As) ⟨C.1, C.2.1, C.2.2.2.1, C.2.2.2.2.1, C.2.2.2.2.2.1⟩ hM hcu ⟨hp.1, hv, hp.2⟩ rfl hl hl2.1 hst (lv_room hW) d ⟨b1, b2⟩ T hT S)
/-- a private method is selected whatever the receiver's class is -/
theorem sd_selP {C : String} {y : MethodName} {args : Array Value} {s : State} {c : ClassId} (hC : s.vm.findClass C = some c) (q2 : (Cond.sameMethod y.cls y.cls y.name y.desc).before args s = true) (q3 : (Cond.privateMethod y).before args s = true) (q4 : (Cond.instanceMethod y).before args s = true) : (Cond.selects C y y).before args s = true := by
  obtain ⟨m, meth, hm, hmeth, -, -⟩ := Cond.instanceMethod_spec q4
  have hp : meth.isPrivate = true := by
    have := q3
    simp only [Cond.before, Cond.holds, Cond.value, hm, Option.bind_some, hmeth, Option.map_some] at this
    simpa using this
  have hc := findClass_of_methodNamed hm
  cases hf : s.methodFound? y.cls y.name y.desc with
  | none =>
    exfalso
    have := q2
    simp [Cond.before, Cond.holds, Cond.value, hc, hf] at this
  | some r =>
    obtain ⟨h1, k, hk, hki⟩ := Cond.sameMethod_spec hc hf q2
    cases hm.symm.trans h1
    have hs : selectMethod {} s.vm c m = .method m := selectMethod_private hmeth hp
    simp [Cond.before, Cond.holds, Cond.value, hC, hf, hm, hs, hk, hki]
theorem sj_runP {index n a ci : Nat} {st rest As fs : List Value} {q : vw_C} {Y1 : sd_Y} {X1 : sd_X} (hM : sd_Met Y1 X1 h) (he : sd_look X.1.2 h a = some (.inr (ci, fs))) (hc : sd_cl[ci]? = some q) (h1 : X1.1 = X.1) (hh : Y1.2.2.2.2 = none) (q1 : Cond.methodLink Y.1.cls index Y1.1 ∈ lw_all) (q2 : Cond.sameMethod Y1.1.cls Y1.1.cls Y1.1.name Y1.1.desc ∈ lw_all) (q3 : Cond.privateMethod Y1.1 ∈ lw_tbl) (q4 : Cond.instanceMethod Y1.1 ∈ lw_all) (q5 : Cond.initialized Y1.1.cls ∈ lw_all) (q6 : Cond.code Y1.1 Y1.2.1 Y1.2.2.1 Y1.2.2.2.1 ∈ lw_all) (hn : sd_nm Y1.1 n = true) (ha : X1.2.2.1 = .ref a :: As) (hl : As.length = n) (ho : ∀ q, X1.2.2.2.1.1 ≠ .inr q) (hok : sd_ok Y1 X1 X) (hst : st = As.reverse ++ .ref a :: rest) (hW : (rest.map fun v => v.category).sum ≤ 8) (d : decode Y.2.1 pc = .ok (.invokevirtual index, 3)) : sd_Cl Y X 3 pc L st rest h X1.2.2.2.1.1 X1.2.2.2.1.2 X1.2.2.2.2 := by
  refine sd_behind (X1 := X1) (av := X1.2.2.1.toArray) h1 ?_
  intro p e s m below meth cd ls H locs cells slots C hR hl2 b1 b2
  have hM := sd_Met_of hM ho
  have hw : sd_ws Y1 = ws_ Y1.1 Y1.2.1 Y1.2.2.1 Y1.2.2.2.1 := by unfold sd_ws; rw [hh]
  rw [hw] at hM
  rw [show X1.1.1 = X.1.1 by rw [h1]] at hM
  have hp := sd_pre (X1 := X1) (by rw [h1]) C.K hR
  rw [ha] at hp hM ⊢
  have hv := sd_recv C.K hR he hc
  have ok := C.2.2.2.2.2.1
  have hd := sd_nm_ok hn
  have hcu : va_CU (sd_rm X) s X.2.2.1.toArray Y.1.cls q.1 Y1.1.cls index Y1.1 Y1.1 Y1.2.1 Y1.2.2.1 Y1.2.2.2.1 (ws_ Y1.1 Y1.2.1 Y1.2.2.1 Y1.2.2.2.1) (sd_rm X1) X1.2.2.2.2.1 X1.2.2.2.2.2 n := by
    obtain ⟨cellB, -, -, hcl⟩ := hv
    refine ⟨⟨rfl, rfl, hok.1, hok.2, pay_in ok (lw_meth q6), List.mem_cons_self⟩, ok _ q6, ok _ q5, ⟨hd.1, hd.2.1⟩, fun sig z => ?_, ok _ q1, ok _ q2, va_Decl.of (ok _ q4) (ok _ q6), sd_selP hcl (ok _ q2) (va_Nw.use rfl (C.K.2.2.1 _ q3 rfl)) (ok _ q4), ok _ q4⟩
    have h2 := hd.2.2
    rw [z] at h2
    exact (Option.some.inj h2).symm
  exact fun T hT S => Or.inl (va_runU (n := n) (g := F0 m pc ls st) (b := a) (As := As) ⟨C.1, C.2.1, C.2.2.2.1, C.2.2.2.2.1, C.2.2.2.2.2.1⟩ hM hcu ⟨hp.1, hv, hp.2⟩ rfl hl hl2.1 hst (lv_room hW) d ⟨b1, b2⟩ T hT S)
/-- super.m(..) -/
theorem sj_runSU {index n a ci : Nat} {st rest As fs : List Value} {q : vw_C} {Y1 : sd_Y} {X1 : sd_X} (hM : sd_Met Y1 X1 h) (he : sd_look X.1.2 h a = some (.inr (ci, fs))) (hc : sd_cl[ci]? = some q) (hmk : sd_mk ci = true) (h1 : X1.1 = X.1) (hh : Y1.2.2.2.2 = none) (q1 : Cond.methodLink Y.1.cls index Y1.1 ∈ lw_all) (q2 : Cond.sameMethod Y1.1.cls Y1.1.cls Y1.1.name Y1.1.desc ∈ lw_all) (q3 : Cond.superclass Y.1.cls Y1.1.cls ∈ lw_all) (q4 : Cond.instanceMethod Y1.1 ∈ lw_all) (q5 : Cond.initialized Y1.1.cls ∈ lw_all) (q6 : Cond.code Y1.1 Y1.2.1 Y1.2.2.1 Y1.2.2.2.1 ∈ lw_all) (hni : Y1.1.name ≠ "<init>") (hn : sd_nm Y1.1 n = true) (ha : X1.2.2.1 = .ref a :: As) (hl : As.length = n) (ho : ∀ q, X1.2.2.2.1.1 ≠ .inr q) (hok : sd_ok Y1 X1 X) (hst : st = As.reverse ++ .ref a :: rest) (hW : (rest.map fun v => v.category).sum ≤ 8) (d : decode Y.2.1 pc = .ok (.invokespecial index, 3)) : sd_Cl Y X 3 pc L st rest h X1.2.2.2.1.1 X1.2.2.2.1.2 X1.2.2.2.2 := by
  refine sd_behind (X1 := X1) (av := X1.2.2.1.toArray) h1 ?_
  intro p e s m below meth cd ls H locs cells slots C hR hl2 b1 b2
  have hM := sd_Met_of hM ho
  have hw : sd_ws Y1 = ws_ Y1.1 Y1.2.1 Y1.2.2.1 Y1.2.2.2.1 := by unfold sd_ws; rw [hh]
  rw [hw] at hM
  rw [show X1.1.1 = X.1.1 by rw [h1]] at hM
  have hp := sd_pre (X1 := X1) (by rw [h1]) C.K hR
  rw [ha] at hp hM ⊢
  have hv := sd_recv C.K hR he hc
  have hg : GoodIn lw_all (va_wsSU Y.1.cls index Y1.1 (ws_ Y1.1 Y1.2.1 Y1.2.2.1 Y1.2.2.2.1)) := lw_app (fun w hw => by
    simp only [List.mem_cons, List.not_mem_nil, or_false] at hw
    rcases hw with e | e | e | e | e
    · rw [e]; exact q1
    · rw [e]; exact q2
    · rw [e]; exact q3
    · rw [e]; exact q4
    · rw [e]; exact q5) (lw_meth q6)
  exact fun T hT S => Or.inl (va_runSU (n := n) (g := F0 m pc ls st) (b := a) (As := As) ((C.K.1 ci q hc).2 hmk).2 ⟨C.1, C.2.1, C.2.2.2.1, C.2.2.2.2.1, C.2.2.2.2.2.1⟩ hM (va_cwSU (R := sd_rm X) n C.2.2.2.2.2.1 hg rfl rfl rfl ⟨hni, (sd_nm_ok hn).2.2⟩ hok) ⟨hp.1, hv, hp.2⟩ rfl hl hl2.1 hst (lv_room hW) d ⟨b1, b2⟩ T hT S)
/-- through an interface -/
theorem sj_runF {index n a ci count : Nat} (j : Nat) {x : MethodName} {st rest As fs : List Value} {q : vw_C} {Y1 : sd_Y} {X1 : sd_X} (hM : sd_Met Y1 X1 h) (he : sd_look X.1.2 h a = some (.inr (ci, fs))) (hc : sd_cl[ci]? = some q) (hmk : sd_mk ci = true) (hj : sd_ifs[j]? = some (q.1, x, Y1.1)) (h1 : X1.1 = X.1) (hh : Y1.2.2.2.2 = none) (q1 : Cond.methodLink Y.1.cls index x ∈ lw_all) (q3 : Cond.selects q.1 x Y1.1 ∈ lw_all) (q4 : Cond.instanceMethod Y1.1 ∈ lw_all) (q5 : Cond.initialized Y1.1.cls ∈ lw_all) (q6 : Cond.code Y1.1 Y1.2.1 Y1.2.2.1 Y1.2.2.2.1 ∈ lw_all) (hn : sd_nm x n = true) (ha : X1.2.2.1 = .ref a :: As) (hl : As.length = n) (ho : ∀ q, X1.2.2.2.1.1 ≠ .inr q) (hok : sd_ok Y1 X1 X) (hst : st = As.reverse ++ .ref a :: rest) (hW : (rest.map fun v => v.category).sum ≤ 8) (d : decode Y.2.1 pc = .ok (.invokeinterface index count, 5)) : sd_Cl Y X 5 pc L st rest h X1.2.2.2.1.1 X1.2.2.2.1.2 X1.2.2.2.2 := by
  refine sd_behind (X1 := X1) (av := X1.2.2.1.toArray) h1 ?_
  intro p e s m below meth cd ls H locs cells slots C hR hl2 b1 b2
  have hM := sd_Met_of hM ho
  have hw : sd_ws Y1 = ws_ Y1.1 Y1.2.1 Y1.2.2.1 Y1.2.2.2.1 := by unfold sd_ws; rw [hh]
  rw [hw] at hM
  rw [show X1.1.1 = X.1.1 by rw [h1]] at hM
  have hp := sd_pre (X1 := X1) (by rw [h1]) C.K hR
  rw [ha] at hp hM ⊢
  have hv := sd_recv C.K hR he hc
  have hg : GoodIn lw_all (va_wsF Y.1.cls index q.1 x Y1.1 (ws_ Y1.1 Y1.2.1 Y1.2.2.1 Y1.2.2.2.1)) := lw_app (fun w hw => by
    simp only [List.mem_cons, List.not_mem_nil, or_false] at hw
    rcases hw with e | e | e | e
    · rw [e]; exact q1
    · rw [e]; exact q3
    · rw [e]; exact q4
    · rw [e]; exact q5) (lw_meth q6)
  have hF := C.K.2.2.2.2.2.1 _ (List.mem_of_getElem? hj)
  exact fun T hT S => Or.inl (va_runF (n := n) (g := F0 m pc ls st) (b := a) (As := As) ((C.K.1 ci q hc).2 hmk).2 ⟨C.1, C.2.1, C.2.2.2.1, C.2.2.2.2.1, C.2.2.2.2.2.1⟩ hM (va_cwF (R := sd_rm X) n C.2.2.2.2.2.1 hg rfl rfl rfl hF (sd_nm_ok hn) hok) ⟨hp.1, hv, hp.2⟩ rfl hl hl2.1 hst (lv_room hW) d ⟨b1, b2⟩ T hT S)
/-- a class constant -/
theorem sj_ldcM {index : Nat} (j : Nat) {C : String} {n : Nat} (hj : sd_mis[j]? = some (C, n)) (hq : Cond.classLink Y.1.cls index C ∈ lw_all) (d : decode Y.2.1 pc = .ok (.ldc index, 2)) (k : sd_J Y X (pc + 2) L (.ref (sd_ad X.1.2 n) :: st) h c) : sd_J Y X pc L st h c := fun p e s m below meth cd ls H locs cells slots Cc hR hz hl b1 b2 => va_ldcM Cc.1 Cc.2.1 Cc.2.2.2.2.1 (Cc.2.2.2.2.2.1 _ hq) (Cc.K.2.2.2.2.2.2.2.2.1 _ (List.mem_of_getElem? hj)) d (k p e s m below meth cd ls H locs cells slots Cc hR hz hl b1 b2)
/-- the array at a is one of objects -/
def sd_isO (G : sd_G) (a : Nat) : sd_M Unit := fun h => match sd_look G h a with
  | some (.inl x) => if x.1 = 4 then some ((), (0, 0), h) else none
  | _ => none
theorem sd_isO_some {G : sd_G} {a : Nat} {K : Unit → sd_M α} (hf : sd_bnd (sd_isO G a) K h = some (ρ, c, h2)) : ∃ x, sd_look G h a = some (.inl (4, x)) ∧ K () h = some (ρ, c, h2) := by
  obtain ⟨u, e1, e2⟩ := sd_bnd_pure (fun _ _ _ e => by unfold sd_isO at e; split at e; split at e <;> cases e; exact ⟨rfl, rfl⟩; cases e) hf
  unfold sd_isO at e1
  split at e1
  · next o ho =>
    split at e1
    · next hc => exact ⟨o.2, by rw [ho, ← hc], e2⟩
    · cases e1
  · cases e1
theorem sj_getC {index a : Nat} {x : vp_A} (he : sd_look X.1.2 h a = some (.inl (4, x))) (q1 : Cond.methodLink Y.1.cls index ⟨"java/lang/Object", "getClass", "()Ljava/lang/Class;"⟩ ∈ lw_all) (q2 : Cond.declares ⟨"java/lang/Object", "getClass", "()Ljava/lang/Class;"⟩ ∈ lw_tbl) (q3 : Cond.selects "[Ljava/lang/Object;" ⟨"java/lang/Object", "getClass", "()Ljava/lang/Class;"⟩ ⟨"java/lang/Object", "getClass", "()Ljava/lang/Class;"⟩ ∈ lw_all) (q4 : Cond.instanceMethod ⟨"java/lang/Object", "getClass", "()Ljava/lang/Class;"⟩ ∈ lw_all) (q5 : Cond.native ⟨"java/lang/Object", "getClass", "()Ljava/lang/Class;"⟩ ∈ lw_all) (hfr : 1 ≤ X.2.1.1) (hlo : (st.map fun v => v.category).sum + 14 ≤ X.2.1.2) (d : decode Y.2.1 pc = .ok (.invokevirtual index, 3)) (k : sd_J Y X (pc + 3) L (.ref (sd_ad X.1.2 99) :: st) h c) : sd_J Y X pc L (.ref a :: st) h c := by
  intro p e s m below meth cd ls H locs cells slots C hR hz hl b1 b2
  have k := k p e s m below meth cd ls H locs cells slots C hR hz hl b1 b2
  obtain ⟨-, cell, v1, v2, v3, v4, v5, -⟩ := hR.look he
  have v5 := v5.resolve_right (fun q => by cases q.1)
  have hfc : s.vm.findClass "[Ljava/lang/Object;" = some (sd_A X.1.2 4) := va_nmO (C := "java/lang/Object") ((C.K.2.1 4 _ rfl).2 (by decide)) (by decide)
  exact va_getC C.1 C.2.1 (C.2.2.2.1.trans hl.1.symm) C.2.2.2.2.1 (C.2.2.2.2.2.1 _ q1) (va_Nw.use rfl (C.K.2.2.1 _ q2 rfl)) (C.2.2.2.2.2.1 _ q3) (C.2.2.2.2.2.1 _ q4) (C.2.2.2.2.2.1 _ q5) (C.K.2.2.2.2.2.2.2.2.1 ("[Ljava/lang/Object;", 99) (by decide)) ⟨cell, v1, v3, by rw [v5]; exact hfc⟩ hfr hlo d k
theorem sj_instN {ci index a : Nat} {fs : List Value} {q : vw_C} {nm : String} (he : sd_look X.1.2 h a = some (.inr (ci, fs))) (hc : sd_cl[ci]? = some q) (hn : (q.1, nm) ∈ sd_ncs) (hq : Cond.classLink Y.1.cls index nm ∈ lw_all) (d : decode Y.2.1 pc = .ok (.instanceof index, 3)) (k : sd_J Y X (pc + 3) L (.int 0 :: st) h c) : sd_J Y X pc L (.ref a :: st) h c := by
  intro p e s m below meth cd ls H locs cells slots C hR hz hl b1 b2
  exact va_instNo C.1 C.2.1 C.2.2.2.2.1 (C.2.2.2.2.2.1 _ hq) (C.K.2.2.2.2.2.2.2.2.2.1 _ hn) (sd_recv C.K hR he hc) d (k p e s m below meth cd ls H locs cells slots C hR hz hl b1 b2)
end SJP
