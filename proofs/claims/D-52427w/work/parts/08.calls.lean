section SJC
variable {Y : sd_Y} {X : sd_X} {pc : Nat} {L : List (Nat × Value)} {st : List Value} {h : sd_H} {c : Nat × Nat}
/-! calls -/
/-- q is thrown over the frame at pc -/
def sd_JX (Y : sd_Y) (X : sd_X) (pc : Nat) (L : List (Nat × Value)) (q : Nat) (h : sd_H) (c : Nat × Nat) : Prop :=
  ∀ (p : Program) (e : Env) (s : State) (m : MethodId) (below : List Frame) (meth : Method) (cd : Code) (ls : Array Slot) (H : Heap) (locs : List Loc) (cells slots : Nat) (rest : List Value) (E : String) (ce : Cell),
    sd_C Y X p s m meth cd → sd_R X.1.2 h H → (∀ z ∈ locs, sd_z X.1.2 ≤ z.base) → lv_has ls Y.2.2.1 L → cells + c.1 ≤ X.2.2.2.2.1 → slots + c.2 ≤ X.2.2.2.2.2 → H[q]? = some ce → ce.vm = .none → s.vm.findClass E = some ce.cls →
    vy_W p X.1.1 e (sd_rm X) s m X.2.2.1.toArray below meth cd H locs cells slots (vy_MQ below (sd_Qc X) (sd_XC X) X.2.2.1.toArray s X.2.2.2.2.1 X.2.2.2.2.2 (sd_fr X)) (F0 m pc ls rest) q
/-- what stands behind a call of ln bytes that ends so -/
def sd_Bh (Y : sd_Y) (X : sd_X) (ln pc : Nat) (L : List (Nat × Value)) (rest : List Value) (o : Option Value ⊕ Nat) (h : sd_H) (c : Nat × Nat) : Prop := match o with
  | .inl v => sd_J Y X (pc + ln) L (v.toList ++ rest) h c
  | .inr q => sd_JX Y X pc L q h c
/-- a call: of ln bytes, from the stack st, with this outcome, heap and cost -/
def sd_Cl (Y : sd_Y) (X : sd_X) (ln pc : Nat) (L : List (Nat × Value)) (st rest : List Value) (h : sd_H) (o : Option Value ⊕ Nat) (h1 : sd_H) (c1 : Nat × Nat) : Prop :=
  ∀ c2, sd_Bh Y X ln pc L rest o h1 c2 → sd_J Y X pc L st h (c1.1 + c2.1, c1.2 + c2.2)
theorem sd_blind {X : sd_X} {h : sd_H} : FrameBlind (va_Pc X.2.2.1 (fun U => sd_K X.1.2 U ∧ sd_R X.1.2 h U.heap)) := by
  intro a U g mk hp
  obtain ⟨e, hK, hR⟩ := hp
  exact ⟨e, sd_K.warm (s := U) (U := U.calling g mk a) (State.WarmedH.refl U) hK, hR⟩
theorem sd_pre {X1 : sd_X} {G : sd_G} {s : State} {H : Heap} (hG : X1.1.2 = G) (hK : sd_K G s) (hR : sd_R G h H) : PreS s H (va_Pc X1.2.2.1 (fun U => sd_K X1.1.2 U ∧ sd_R X1.1.2 h U.heap)) X1.2.2.1 :=
  ⟨sd_blind, fun U hU hW => ⟨rfl, by rw [hG]; exact sd_K.warm hW hK, by rw [hG, hU]; exact hR⟩⟩
/-- out of the machine's run of a call -/
theorem sd_behind {ln : Nat} {st rest : List Value} {X1 : sd_X} {av : Array Value} (h1 : X1.1 = X.1)
    (hrun : ∀ (p : Program) (e : Env) (s : State) (m : MethodId) (below : List Frame) (meth : Method) (cd : Code) (ls : Array Slot) (H : Heap) (locs : List Loc) (cells slots : Nat), sd_C Y X p s m meth cd → sd_R X.1.2 h H → lv_has ls Y.2.2.1 L → cells + X1.2.2.2.2.1 ≤ X.2.2.2.2.1 → slots + X1.2.2.2.2.2 ≤ X.2.2.2.2.2 →
      ∀ T : State, T.heap = H → Stand p X.1.1 e (sd_rm X) s m X.2.2.1.toArray below meth cd T locs cells slots →
      (∃ (v : Option Value) (st₀ t T' : State) (L1 : List Loc), st₀.heap = H ∧ Stand p X.1.1 e (sd_rm X) s m X.2.2.1.toArray below meth cd T' (locs ++ L1) (cells + X1.2.2.2.2.1) (slots + X1.2.2.2.2.2) ∧ (∀ q ∈ L1, sd_fr X1 q.base) ∧ T'.heap = t.heap ∧ T'.vm = t.vm ∧ sd_Qc X1 av st₀ (.returned v) t ∧
        Goes p e below T (F0 m pc ls st) T' { F0 m pc ls st with pc := pc + ln, stack := v.toList ++ rest }) ∨
      (∃ (q : Addr) (st₀ t T' : State) (L1 : List Loc) (E : String) (ce : Cell), st₀.heap = H ∧ Stand p X.1.1 e (sd_rm X) s m X.2.2.1.toArray below meth cd T' (locs ++ L1) (cells + X1.2.2.2.2.1) (slots + X1.2.2.2.2.2) ∧ (∀ z ∈ L1, sd_fr X1 z.base) ∧ T'.heap = t.heap ∧ T'.vm = t.vm ∧ sd_XC X1 q E st₀ t ∧ t.heap[q]? = some ce ∧ ce.vm = .none ∧ s.vm.findClass E = some ce.cls ∧
        Steps p.tables e below (T.setTop (F0 m pc ls st)) ((T'.setTop { F0 m pc ls st with stack := rest }).pushFrame (.throwing q)))) :
    sd_Cl Y X ln pc L st rest h X1.2.2.2.1.1 X1.2.2.2.1.2 X1.2.2.2.2 := by
  intro c2 kk p e s m below meth cd ls H locs cells slots C hR hz hl b1 b2
  simp only at b1 b2
  intro T hT S
  rcases hrun p e s m below meth cd ls H locs cells slots C hR hl (by omega) (by omega) T hT S with ⟨v, st₀, t, T', L1, w0, S', w1, w2, w3, ⟨v', w4, w5, w6⟩, st9⟩ | ⟨q, st₀, t, T', L1, E, ce, w0, S', w1, w2, w3, ⟨w4, w5⟩, w6, w7, w8, st9⟩
  · cases w5
    unfold sd_Bh at kk
    rw [w4] at kk
    rw [h1] at w6
    obtain ⟨t2, a1, b3⟩ := kk p e s m below meth cd ls T'.heap (locs ++ L1) _ _ C (by rw [w2]; exact w6) (fun z hz' => by
      rcases List.mem_append.mp hz' with z1 | z1
      · exact hz z z1
      · have := w1 z z1; unfold sd_fr at this; rw [h1] at this; exact this) hl (by omega) (by omega) T' rfl S'
    exact ⟨t2, st9 t2 a1, b3⟩
  · unfold sd_Bh at kk
    rw [w4] at kk
    rw [h1] at w5
    obtain ⟨t2, a1, b3⟩ := kk p e s m below meth cd ls T'.heap (locs ++ L1) _ _ rest E ce C (by rw [w2]; exact w5) (fun z hz' => by
      rcases List.mem_append.mp hz' with z1 | z1
      · exact hz z z1
      · have := w1 z z1; unfold sd_fr at this; rw [h1] at this; exact this) hl (by omega) (by omega) (by rw [w2]; exact w6) w7 w8 T' rfl S'
    exact ⟨t2, st9.trans a1, b3⟩
theorem sd_run_V {p : Program} {l : Launch} {e : Env} {R : Room} {s : State} {m : MethodId} {args : Array Value} {below : List Frame} {meth : Method} {cd : Code} {H : Heap} {locs : List Loc} {cells slots mc ms : Nat} {g : JFrame} {rest : List Value} {Qa : State → Outcome → State → Prop} {free : Addr → Prop} {XA : Nat → String → State → State → Prop}
    (hr : va_Run p l e R s m args below meth cd H locs cells slots mc ms g rest Qa free) : vy_Run p l e R s m args below meth cd H locs cells slots mc ms g rest Qa XA free := fun T hT S => Or.inl (hr T hT S)
/-- what a call's names must be: no method handle; the number of arguments -/
def sd_nm (y : MethodName) (n : Nat) : Bool := decide (y.cls ≠ "java/lang/invoke/MethodHandle") && decide (y.cls ≠ "java/lang/invoke/VarHandle") && decide ((parseMethodDescriptor y.desc).map (fun d => d.parameters.length) = some n)
theorem sd_nm_ok {y : MethodName} {n : Nat} (h : sd_nm y n = true) : y.cls ≠ "java/lang/invoke/MethodHandle" ∧ y.cls ≠ "java/lang/invoke/VarHandle" ∧ (parseMethodDescriptor y.desc).map (fun d => d.parameters.length) = some n := by
  simp only [sd_nm, Bool.and_eq_true, decide_eq_true_eq] at h
  exact ⟨h.1.1, h.1.2, h.2⟩
/-- the room that a call asks of the caller -/
def sd_ok (Y1 : sd_Y) (X1 X : sd_X) : Prop := X1.2.1.1 + 1 ≤ X.2.1.1 ∧ 8 + (Y1.2.2.1 + 11) + X1.2.1.2 ≤ X.2.1.2
theorem sd_dec {index ln : Nat} {cd : Code} {i : Instr} (hb : cd.code = Y.2.1) (d : decode Y.2.1 pc = .ok (i, ln)) : decode cd.code pc = .ok (i, ln) := by rw [hb]; exact d
theorem sj_runS {index n : Nat} {st rest : List Value} {Y1 : sd_Y} {X1 : sd_X} (hM : sd_Met Y1 X1 h) (h1 : X1.1 = X.1) (hh : Y1.2.2.2.2 = none) (q1 : Cond.methodLink Y.1.cls index Y1.1 ∈ lw_all) (q2 : Cond.static Y1.1 ∈ lw_all) (q3 : Cond.initialized Y1.1.cls ∈ lw_all) (q4 : Cond.code Y1.1 Y1.2.1 Y1.2.2.1 Y1.2.2.2.1 ∈ lw_all) (hn : sd_nm Y1.1 n = true) (hl : X1.2.2.1.length = n) (hok : sd_ok Y1 X1 X) (hst : st = X1.2.2.1.reverse ++ rest) (hW : (rest.map fun v => v.category).sum ≤ 8) (d : decode Y.2.1 pc = .ok (.invokestatic index, 3)) : sd_Cl Y X 3 pc L st rest h X1.2.2.2.1.1 X1.2.2.2.1.2 X1.2.2.2.2 := by
  refine sd_behind (X1 := X1) (av := X1.2.2.1.toArray) h1 ?_
  intro p e s m below meth cd ls H locs cells slots C hR hl2 b1 b2
  have hw : sd_ws Y1 = ws_ Y1.1 Y1.2.1 Y1.2.2.1 Y1.2.2.2.1 := by unfold sd_ws; rw [hh]
  unfold sd_Met at hM
  rw [hw] at hM
  rw [show X1.1.1 = X.1.1 by rw [h1]] at hM
  exact vy_runS (n := n) (g := F0 m pc ls st) ⟨C.1, C.2.1, C.2.2.2.1, C.2.2.2.2.1, C.2.2.2.2.2.1⟩ hM (va_cwS n C.2.2.2.2.2.1 (lw_S q1 q2 q3 q4) rfl rfl rfl (sd_nm_ok hn) hok) (sd_pre (by rw [h1]) C.2.2.2.2.2.2.2.2.2 hR) rfl hl hl2.1 hst (lv_room hW) d ⟨b1, b2⟩
theorem sd_Met_of {Y1 : sd_Y} {X1 : sd_X} (hM : sd_Met Y1 X1 h) (ho : ∀ q, X1.2.2.2.1.1 ≠ .inr q) : Met X1.1.1 Y1.1 (sd_ws Y1) (sd_rm X1) (va_Pc X1.2.2.1 (fun U => sd_K X1.1.2 U ∧ sd_R X1.1.2 h U.heap)) (sd_Qc X1) X1.2.2.2.2.1 X1.2.2.2.2.2 (sd_fr X1) := by
  intro p e w1 w2 w3 s m args below w4 w5 w6 w7
  obtain ⟨n, o, z1, z2, z3, hq⟩ := hM p e w1 w2 w3 s m args below (vy_app_of w4 w5) w6
  refine ⟨n, o, z1, z2, z3, ?_⟩
  rcases hq with hq | ⟨q, -, E, ce, L9, hx, -⟩
  · exact hq
  · exact absurd hx.1 (ho q)
theorem sj_runI {index n a : Nat} {st rest As : List Value} {Y1 : sd_Y} {X1 : sd_X} (hM : sd_Met Y1 X1 h) (h1 : X1.1 = X.1) (hh : Y1.2.2.2 = (none, none)) (q1 : Cond.methodLink Y.1.cls index Y1.1 ∈ lw_all) (q2 : Cond.instanceMethod Y1.1 ∈ lw_all) (q3 : Cond.initialized Y1.1.cls ∈ lw_all) (q4 : Cond.code Y1.1 Y1.2.1 Y1.2.2.1 none ∈ lw_all) (hy : Y1.1.name = "<init>") (hn : sd_nm Y1.1 n = true) (ha : X1.2.2.1 = .ref a :: As) (hl : As.length = n) (ho : ∀ q, X1.2.2.2.1.1 ≠ .inr q) (hok : sd_ok Y1 X1 X) (hst : st = As.reverse ++ .ref a :: rest) (hW : (rest.map fun v => v.category).sum ≤ 8) (d : decode Y.2.1 pc = .ok (.invokespecial index, 3)) : sd_Cl Y X 3 pc L st rest h X1.2.2.2.1.1 X1.2.2.2.1.2 X1.2.2.2.2 := by
  refine sd_behind (X1 := X1) (av := X1.2.2.1.toArray) h1 ?_
  intro p e s m below meth cd ls H locs cells slots C hR hl2 b1 b2
  have hM := sd_Met_of hM ho
  have hw : sd_ws Y1 = ws_ Y1.1 Y1.2.1 Y1.2.2.1 none := by unfold sd_ws; rw [hh]
  rw [hw] at hM
  rw [show X1.1.1 = X.1.1 by rw [h1]] at hM
  have hp := sd_pre (X1 := X1) (by rw [h1]) C.2.2.2.2.2.2.2.2.2 hR
  rw [ha] at hp hM ⊢
  exact fun T hT S => Or.inl (va_runI (n := n) (g := F0 m pc ls st) (b := a) (As := As) ⟨C.1, C.2.1, C.2.2.2.1, C.2.2.2.2.1, C.2.2.2.2.2.1⟩ hM (cwI (R := sd_rm X) n C.2.2.2.2.2.1 (lw_meth q4) rfl rfl rfl (C.2.2.2.2.2.1 _ q3) (C.2.2.2.2.2.1 _ q1) (C.2.2.2.2.2.1 _ q2) hy (sd_nm_ok hn) hok) hp rfl hl hl2.1 hst (lv_room hW) d ⟨b1, b2⟩ T hT S)
/-- the receiver's class -/
theorem sd_recv {G : sd_G} {s : State} {H : Heap} {a ci : Nat} {fs : List Value} {q : vw_C} (hK : sd_K G s) (hR : sd_R G h H) (he : sd_look G h a = some (.inr (ci, fs))) (hc : sd_cl[ci]? = some q) : ∃ cell : Cell, H[a]? = some cell ∧ cell.vm.isStatics = false ∧ s.vm.findClass q.1 = some cell.cls := by
  obtain ⟨-, cell, q1, g1, g2, g3, g4, -⟩ := hR.look he
  exact ⟨cell, q1, g2, by rw [g4]; exact (hK.1 ci q hc).1⟩
theorem sj_runV {index n a ci : Nat} {st rest As fs : List Value} {q : vw_C} {Y1 : sd_Y} {X1 : sd_X} (hM : sd_Met Y1 X1 h) (he : sd_look X.1.2 h a = some (.inr (ci, fs))) (hc : sd_cl[ci]? = some q) (hq : q.1 = Y1.1.cls) (h1 : X1.1 = X.1) (hh : Y1.2.2.2.2 = none) (q1 : Cond.methodLink Y.1.cls index Y1.1 ∈ lw_all) (q2 : Cond.instanceMethod Y1.1 ∈ lw_all) (q3 : Cond.selects Y1.1.cls Y1.1 Y1.1 ∈ lw_all) (q4 : Cond.initialized Y1.1.cls ∈ lw_all) (q5 : Cond.code Y1.1 Y1.2.1 Y1.2.2.1 Y1.2.2.2.1 ∈ lw_all) (hn : sd_nm Y1.1 n = true) (ha : X1.2.2.1 = .ref a :: As) (hl : As.length = n) (hok : sd_ok Y1 X1 X) (hst : st = As.reverse ++ .ref a :: rest) (hW : (rest.map fun v => v.category).sum ≤ 8) (d : decode Y.2.1 pc = .ok (.invokevirtual index, 3)) : sd_Cl Y X 3 pc L st rest h X1.2.2.2.1.1 X1.2.2.2.1.2 X1.2.2.2.2 := by
  refine sd_behind (X1 := X1) (av := X1.2.2.1.toArray) h1 ?_
  intro p e s m below meth cd ls H locs cells slots C hR hl2 b1 b2
  have hw : sd_ws Y1 = ws_ Y1.1 Y1.2.1 Y1.2.2.1 Y1.2.2.2.1 := by unfold sd_ws; rw [hh]
  unfold sd_Met at hM
  rw [hw] at hM
  rw [show X1.1.1 = X.1.1 by rw [h1]] at hM
  have hp := sd_pre (X1 := X1) (by rw [h1]) C.2.2.2.2.2.2.2.2.2 hR
  rw [ha] at hp hM ⊢
  have hv := sd_recv C.2.2.2.2.2.2.2.2.2 hR he hc
  rw [hq] at hv
  exact vy_runV (n := n) (g := F0 m pc ls st) (b := a) (As := As) ⟨C.1, C.2.1, C.2.2.2.1, C.2.2.2.2.1, C.2.2.2.2.2.1⟩ hM (cwV n C.2.2.2.2.2.1 (lw_V q1 q2 q3 q4 q5) rfl rfl rfl ⟨rfl, sd_nm_ok hn⟩ hok) ⟨hp.1, hv, hp.2⟩ rfl hl hl2.1 hst (lv_room hW) d ⟨b1, b2⟩
/-! behind a call, by the kind of its answer -/
theorem sj_cI {α : Type} {f : sd_M Int32} {K : Int32 → sd_M α} {ρ : α} {h2 : sd_H} {st rest : List Value} {ln : Nat} (hr : ∀ r c1 h1, f h = some (r, c1, h1) → sd_Cl Y X ln pc L st rest h (sd_oI r) h1 c1) (hf : sd_bnd f K h = some (ρ, c, h2)) (kk : ∀ r h1 c2, K r h1 = some (ρ, c2, h2) → sd_J Y X (pc + ln) L (.int r :: rest) h1 c2) : sd_J Y X pc L st h c := by
  obtain ⟨a, c1, c2, h1, e1, e2, rfl⟩ := sd_bnd_some hf
  exact hr _ _ _ e1 c2 (kk _ _ _ e2)
theorem sj_cL {α : Type} {f : sd_M Int64} {K : Int64 → sd_M α} {ρ : α} {h2 : sd_H} {st rest : List Value} {ln : Nat} (hr : ∀ r c1 h1, f h = some (r, c1, h1) → sd_Cl Y X ln pc L st rest h (sd_oL r) h1 c1) (hf : sd_bnd f K h = some (ρ, c, h2)) (kk : ∀ r h1 c2, K r h1 = some (ρ, c2, h2) → sd_J Y X (pc + ln) L (.long r :: rest) h1 c2) : sd_J Y X pc L st h c := by
  obtain ⟨a, c1, c2, h1, e1, e2, rfl⟩ := sd_bnd_some hf
  exact hr _ _ _ e1 c2 (kk _ _ _ e2)
theorem sj_cD {α : Type} {f : sd_M UInt64} {K : UInt64 → sd_M α} {ρ : α} {h2 : sd_H} {st rest : List Value} {ln : Nat} (hr : ∀ r c1 h1, f h = some (r, c1, h1) → sd_Cl Y X ln pc L st rest h (sd_oD r) h1 c1) (hf : sd_bnd f K h = some (ρ, c, h2)) (kk : ∀ r h1 c2, K r h1 = some (ρ, c2, h2) → sd_J Y X (pc + ln) L (.double r :: rest) h1 c2) : sd_J Y X pc L st h c := by
  obtain ⟨a, c1, c2, h1, e1, e2, rfl⟩ := sd_bnd_some hf
  exact hr _ _ _ e1 c2 (kk _ _ _ e2)
theorem sj_cR {α : Type} {f : sd_M Nat} {K : Nat → sd_M α} {ρ : α} {h2 : sd_H} {st rest : List Value} {ln : Nat} (hr : ∀ r c1 h1, f h = some (r, c1, h1) → sd_Cl Y X ln pc L st rest h (sd_oR r) h1 c1) (hf : sd_bnd f K h = some (ρ, c, h2)) (kk : ∀ r h1 c2, K r h1 = some (ρ, c2, h2) → sd_J Y X (pc + ln) L (.ref r :: rest) h1 c2) : sd_J Y X pc L st h c := by
  obtain ⟨a, c1, c2, h1, e1, e2, rfl⟩ := sd_bnd_some hf
  exact hr _ _ _ e1 c2 (kk _ _ _ e2)
theorem sj_cQ {α : Type} {f : sd_M (Option Nat)} {K : Option Nat → sd_M α} {ρ : α} {h2 : sd_H} {st rest : List Value} {ln : Nat} (hr : ∀ r c1 h1, f h = some (r, c1, h1) → sd_Cl Y X ln pc L st rest h (sd_oQ r) h1 c1) (hf : sd_bnd f K h = some (ρ, c, h2)) (kk : ∀ r h1 c2, K r h1 = some (ρ, c2, h2) → sd_J Y X (pc + ln) L (va_rf r :: rest) h1 c2) : sd_J Y X pc L st h c := by
  obtain ⟨a, c1, c2, h1, e1, e2, rfl⟩ := sd_bnd_some hf
  exact hr _ _ _ e1 c2 (kk _ _ _ e2)
theorem sj_cV {α : Type} {f : sd_M Unit} {K : Unit → sd_M α} {ρ : α} {h2 : sd_H} {st rest : List Value} {ln : Nat} (hr : ∀ r c1 h1, f h = some (r, c1, h1) → sd_Cl Y X ln pc L st rest h (sd_oV r) h1 c1) (hf : sd_bnd f K h = some (ρ, c, h2)) (kk : ∀ h1 c2, K () h1 = some (ρ, c2, h2) → sd_J Y X (pc + ln) L rest h1 c2) : sd_J Y X pc L st h c := by
  obtain ⟨a, c1, c2, h1, e1, e2, rfl⟩ := sd_bnd_some hf
  exact hr _ _ _ e1 c2 (kk _ _ e2)
/-- Object's constructor -/
theorem sj_objInit {index a : Nat} (q1 : Cond.methodLink Y.1.cls index Lib.objectInit ∈ lw_all) (q2 : Cond.instanceMethod Lib.objectInit ∈ lw_all) (q3 : Cond.code Lib.objectInit ⟨#[0xb1]⟩ 1 none ∈ lw_all) (hfr : 1 ≤ X.2.1.1) (hlo : (st.map fun v => v.category).sum + 12 ≤ X.2.1.2) (d : decode Y.2.1 pc = .ok (.invokespecial index, 3)) (k : sd_J Y X (pc + 3) L st h c) : sd_J Y X pc L (.ref a :: st) h c := fun p e s m below meth cd ls H locs cells slots C hR hz hl b1 b2 => W.objInit C.1 C.2.1 C.2.2.2.2.1 (C.2.2.2.2.2.1 _ q1) (C.2.2.2.2.2.1 _ q2) (C.2.2.2.2.2.1 _ q3) (g := F0 _ _ _ _) rfl (hl.1.trans C.2.2.2.1.symm) rfl d hfr (by show 2 * 0 + _ + 12 ≤ X.2.1.2; omega) (k p e s m below meth cd ls H locs cells slots C hR hz hl b1 b2)

end SJC
