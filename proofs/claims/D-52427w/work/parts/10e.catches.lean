/-! thrown objects, handlers, methods with handlers; a Fault's super call -/
section SJK
variable {Y : sd_Y} {X : sd_X} {pc : Nat} {L : List (Nat × Value)} {st : List Value} {h : sd_H} {c : Nat × Nat} {α β : Type} {h2 : sd_H}
/-- a cell that was made here, of a known class -/
theorem sd_thrown {G : sd_G} {H : Heap} {s : State} {q ci : Nat} {fs : List Value} {r : vw_C} (hK : sd_K G s) (hR : sd_R G h H) (he : h.2 q = some (.inr (ci, fs))) (hc : sd_cl[ci]? = some r) : ∃ ce : Cell, H[q]? = some ce ∧ ce.vm = .none ∧ s.vm.findClass r.1 = some ce.cls := by
  obtain ⟨hz, -, ce, v1, v2, v3, v4, v5, -⟩ := hR.2.2.2.2.1 q _ he
  exact ⟨ce, v1, v4 hz, by rw [v5]; exact (hK.1 ci r hc).1⟩
/-- an object made here: its class number -/
def sd_own (q : Nat) : sd_M Nat := fun h => match h.2 q with
  | some (.inr o) => some (o.1, (0, 0), h)
  | _ => none
theorem sd_own_some {K : Nat → sd_M β} {ρ : β} {q : Nat} (hf : sd_bnd (sd_own q) K h = some (ρ, c, h2)) : ∃ ci fs, h.2 q = some (.inr (ci, fs)) ∧ K ci h = some (ρ, c, h2) := by
  obtain ⟨u, c1, c2, h1, e1, e2, rfl⟩ := sd_bnd_some hf
  unfold sd_own at e1
  split at e1
  · next o ho =>
    cases e1
    exact ⟨o.1, o.2, ho, by simpa using e2⟩
  · cases e1
theorem sj_athrow {q ci : Nat} {fs : List Value} {r : vw_C} (he : h.2 q = some (.inr (ci, fs))) (hc : sd_cl[ci]? = some r) (d : decode Y.2.1 pc = .ok (.athrow, 1)) (k : sd_JX Y X pc L q h c) : sd_J Y X pc L (.ref q :: st) h c := by
  intro p e s m below meth cd ls H locs cells slots C hR hz hl b1 b2
  obtain ⟨ce, v1, v2, v3⟩ := sd_thrown C.K hR he hc
  intro T hT S
  obtain ⟨t, sg, hq⟩ := k p e s m below meth cd ls H locs cells slots st r.1 ce C hR hz hl b1 b2 v1 v2 v3 T hT S
  refine ⟨t, ?_, hq⟩
  have hdg' : decode cd.code pc = .ok (.athrow, 1) := by rw [C.2.1]; exact d
  jvm_step S.here [S.here.top, C.1, hdg', athrow.wp_sem]
  exact sg
/-- caught by the row x of the table -/
theorem sj_catch {q ci : Nat} {fs : List Value} {r : vw_C} {name : String} (pre : List ExceptionTableEntry) (x : ExceptionTableEntry) (suf : List ExceptionTableEntry) (he : h.2 q = some (.inr (ci, fs))) (hc : sd_cl[ci]? = some r) (ht : sd_tb Y = pre ++ x :: suf)
    (hpass : ∀ z ∈ pre, covers z pc = false ∨ (z.catchType ≠ 0 ∧ ∃ nm : String, Cond.classLink Y.1.cls z.catchType nm ∈ lw_all ∧ (r.1, nm) ∈ sd_ncs)) (hx : covers x pc = true) (h0 : x.catchType ≠ 0) (hlink : Cond.classLink Y.1.cls x.catchType name ∈ lw_all) (hcast : Cond.castable r.1 name ∈ lw_tbl) (k : sd_J Y X x.handlerPc L [.ref q] h c) : sd_JX Y X pc L q h c := by
  intro p e s m below meth cd ls H locs cells slots rest E ce C hR hz hl b1 b2 hce hv hcl
  obtain ⟨ce', v1, v2, v3⟩ := sd_thrown C.K hR he hc
  have ok := C.2.2.2.2.2.1
  exact vy_catch C.2.2.2.2.1 pre x suf (C.2.2.2.2.2.2.2.2.1.trans ht) (fun z hz => (hpass z hz).imp id (fun ⟨w1, nm, w2, w3⟩ => ⟨w1, nm, ok _ w2, C.K.2.2.2.2.2.2.2.2.2.1 _ w3⟩)) hx h0 (ok _ hlink) (va_Nw.use rfl (C.K.2.2.1 _ hcast rfl)) v1 v2 v3 (k p e s m below meth cd ls H locs cells slots C hR hz hl b1 b2)
theorem sj_zretX {ty : FieldType} {ρ : Int32 ⊕ Nat} {x : Int32} (hf : sd_retNX ty x h = some (ρ, c, h2)) (hX : X.2.2.2.1 = (sd_ox sd_oI ρ, h2)) (hret : Y.2.2.2.1 = some ty) (d : decode Y.2.1 pc = .ok (.ireturn, 1)) : sd_J Y X pc L [.int x] h c := by
  unfold sd_retNX at hf
  split at hf
  · next hn =>
    cases hf
    exact sj_zret (ty := ty) (ρ := x) (h2 := h) (by unfold sd_retN; rw [if_pos hn]) hX hret d
  · cases hf
/-- the contract of a method with handlers -/
theorem sd_entryW {hs : List (Nat × Nat × Nat × Nat)} (hy : plainFor Y.1 = true) (hh : Y.2.2.2.2 = some hs) (hn : (lg_sl X.2.2.1).length ≤ Y.2.2.1) (k : sd_J Y X 0 (lv_args 0 X.2.2.1) [] h X.2.2.2.2) : sd_Met Y X h := by
  refine vy_ofWH (cc := Y.2.1) (maxL := Y.2.2.1) (ret := Y.2.2.2.1) (ws' := lw_all) hy (by unfold sd_ws; rw [hh]) ?_
  intro p e s m args below meth cd g1 g2 g3 g4 g5 g6 g7 g8 g9 g10 hv
  obtain ⟨rfl, hK, hR⟩ := hv
  have hl := lv_entry X.2.2.1 hn
  rw [lg_entry_eq]
  refine k p e s m below meth cd _ s.heap [] 0 0 ⟨g1, g2, g3, g4, findClass_of_methodNamed g5, fun w hw => g9 w (sd_ws_in w hw), g8, (name_of_methodNamed g5 g6).1, ?_, hK⟩ hR (fun _ hz => nomatch hz) hl (by omega) (by omega)
  unfold sd_tb
  rw [hh]
  exact g10
theorem sj_runSW {index n : Nat} {hs : List (Nat × Nat × Nat × Nat)} {st rest : List Value} {Y1 : sd_Y} {X1 : sd_X} (hM : sd_Met Y1 X1 h) (h1 : X1.1 = X.1) (hh : Y1.2.2.2.2 = some hs) (q1 : Cond.methodLink Y.1.cls index Y1.1 ∈ lw_all) (q2 : Cond.static Y1.1 ∈ lw_all) (q3 : Cond.initialized Y1.1.cls ∈ lw_all) (q4 : Cond.codeWith Y1.1 Y1.2.1 Y1.2.2.1 Y1.2.2.2.1 hs ∈ lw_all) (hn : sd_nm Y1.1 n = true) (hl : X1.2.2.1.length = n) (hok : sd_ok Y1 X1 X) (hst : st = X1.2.2.1.reverse ++ rest) (hW : (rest.map fun v => v.category).sum ≤ 8) (d : decode Y.2.1 pc = .ok (.invokestatic index, 3)) : sd_Cl Y X 3 pc L st rest h X1.2.2.2.1.1 X1.2.2.2.1.2 X1.2.2.2.2 := by
  refine sd_behind (X1 := X1) (av := X1.2.2.1.toArray) h1 ?_
  intro p e s m below meth cd ls H locs cells slots C hR hl2 b1 b2
  have hw : sd_ws Y1 = wsW_ Y1.1 Y1.2.1 Y1.2.2.1 Y1.2.2.2.1 hs := by unfold sd_ws; rw [hh]
  unfold sd_Met at hM
  rw [hw] at hM
  rw [show X1.1.1 = X.1.1 by rw [h1]] at hM
  exact vy_runSX (n := n) (g := F0 m pc ls st) ⟨C.1, C.2.1, C.2.2.2.1, C.2.2.2.2.1, C.2.2.2.2.2.1⟩ hM (vy_cwSW n C.2.2.2.2.2.1 (lw_SW q1 q2 q3 q4) rfl rfl rfl (sd_nm_ok hn) hok) (sd_pre (by rw [h1]) C.K hR) rfl hl hl2.1 hst (lv_room hW) d ⟨b1, b2⟩
theorem sj_runVW {index n a ci : Nat} {hs : List (Nat × Nat × Nat × Nat)} {st rest As fs : List Value} {q : vw_C} {Y1 : sd_Y} {X1 : sd_X} (hM : sd_Met Y1 X1 h) (he : sd_look X.1.2 h a = some (.inr (ci, fs))) (hc : sd_cl[ci]? = some q) (hq : q.1 = Y1.1.cls) (h1 : X1.1 = X.1) (hh : Y1.2.2.2.2 = some hs) (q1 : Cond.methodLink Y.1.cls index Y1.1 ∈ lw_all) (q2 : Cond.instanceMethod Y1.1 ∈ lw_all) (q3 : Cond.selects Y1.1.cls Y1.1 Y1.1 ∈ lw_all) (q4 : Cond.initialized Y1.1.cls ∈ lw_all) (q5 : Cond.codeWith Y1.1 Y1.2.1 Y1.2.2.1 Y1.2.2.2.1 hs ∈ lw_all) (hn : sd_nm Y1.1 n = true) (ha : X1.2.2.1 = .ref a :: As) (hl : As.length = n) (hok : sd_ok Y1 X1 X) (hst : st = As.reverse ++ .ref a :: rest) (hW : (rest.map fun v => v.category).sum ≤ 8) (d : decode Y.2.1 pc = .ok (.invokevirtual index, 3)) : sd_Cl Y X 3 pc L st rest h X1.2.2.2.1.1 X1.2.2.2.1.2 X1.2.2.2.2 := by
  refine sd_behind (X1 := X1) (av := X1.2.2.1.toArray) h1 ?_
  intro p e s m below meth cd ls H locs cells slots C hR hl2 b1 b2
  have hw : sd_ws Y1 = wsW_ Y1.1 Y1.2.1 Y1.2.2.1 Y1.2.2.2.1 hs := by unfold sd_ws; rw [hh]
  unfold sd_Met at hM
  rw [hw] at hM
  rw [show X1.1.1 = X.1.1 by rw [h1]] at hM
  have hp := sd_pre (X1 := X1) (by rw [h1]) C.K hR
  rw [ha] at hp hM ⊢
  have hv := sd_recv C.K hR he hc
  rw [hq] at hv
  exact vy_runVX (n := n) (g := F0 m pc ls st) (b := a) (As := As) ⟨C.1, C.2.1, C.2.2.2.1, C.2.2.2.2.1, C.2.2.2.2.2.1⟩ hM (vy_cwVW n C.2.2.2.2.2.1 (lw_VW q1 q2 q3 q4 q5) rfl rfl rfl ⟨rfl, sd_nm_ok hn⟩ hok) ⟨hp.1, hv, hp.2⟩ rfl hl hl2.1 hst (lv_room hW) d ⟨b1, b2⟩
end SJK
/-! a Fault's super call: Exception's constructor on an object of a class below (after vx_ctorMade0 of the kit) -/
section SJF
variable {p : Program} {l : Launch} {e : Env} {R : Room} {s : State} {m₀ : MethodId} {args : Array Value} {below : List Frame} {meth : Method} {c : Code} {W : State} {locs : List Loc} {cells slots : Nat}
theorem sd_unbase {m : MethodId} {T T2 : State} {R' : Room} {L2 : List Loc} {c2 n2 : Nat} (X : Stand p l e R s m args below meth c T locs cells slots) (Y2 : Stand p l e R' ((T.setVm s.vm).setFrames (.invoking m args :: below)) m args below meth c T2 L2 c2 n2) : Stand p l e R s m args below meth c T2 (locs ++ L2) (cells + c2) (slots + n2) := by
  have hW0 : s.WarmedH ((T.setVm s.vm).setFrames (.invoking m args :: below)).vm := State.WarmedH.refl s
  refine ⟨X.admits, X.cas, X.clock, X.frames, X.room, X.hears, X.method, X.code, Y2.here, Y2.tail, State.WarmedH.trans hW0 Y2.warmed, ?_, ?_, ?_⟩
  · have h1 := Y2.limits
    rw [State.stackLimits_setFrames] at h1
    exact h1.trans X.limits
  · have h1 := Y2.bytes
    rw [State.stackBytes_setFrames] at h1
    exact h1.trans X.bytes
  · obtain ⟨e1, e2⟩ := Y2.same
    rw [State.setFrames_setFrames] at e1
    have h2 : (T.setVm s.vm).sameButNew (T2.setVm s.vm) L2 c2 n2 := ⟨e1, e2⟩
    exact X.same.trans h2
def sd_atF (own : String) (ic : Nat) (F : String) (n : Nat) : List Cond :=
  Bundle.throwableAtoms ++ Bundle.chain0Atoms "java/lang/Exception" [] ++
  [.methodLink own ic (Bundle.init0 "java/lang/Exception"), .instantiable F n, .castable F F, .selects F Bundle.tFill0 Bundle.tFill0, .selects F Bundle.tFill Bundle.tFill,
   .lays F Bundle.tN "cause" "Ljava/lang/Throwable;", .lays F Bundle.tN "stackTrace" Bundle.steD, .lays F Bundle.tN "suppressedExceptions" Bundle.listD, .lays F Bundle.tN "detailMessage" "Ljava/lang/String;",
   .isRef (.static Bundle.tN "UNASSIGNED_STACK" Bundle.steD), .isRef (.static Bundle.tN "SUPPRESSED_SENTINEL" Bundle.listD),
   .fieldLink Bundle.tN 198 Bundle.tN "backtrace" "Ljava/lang/Object;", .lays Bundle.tN Bundle.tN "backtrace" "Ljava/lang/Object;", .lays F Bundle.tN "backtrace" "Ljava/lang/Object;"]
theorem sd_takes {cell : Cell} {f : Field} {v : Value} {k : Class} (hk : s.vm.classes[cell.cls]? = some k) (h0 : cell.vm = .none) (hord : k.kind = .ordinary) (hty : k.instanceTypes[f.slot]? = some f.type) (hv : fits f.type v = true) (hlt : f.slot < cell.slots.size) : Takes s cell f v := ⟨hlt, by simp [State.fitsSlot, State.slotType?, h0, hk, hord, hty, hv]⟩
/-- a field that the layer knows is there -/
def sd_there (s : State) (cell : Cell) (n d : String) : Prop := ∀ (cB : ClassId) (kB : Class) (iB : Nat) (f : Field), s.fieldFound? Bundle.tN n d = some (cB, kB, iB, f) → f.slot < cell.slots.size
set_option maxHeartbeats 1000000 in
theorem sd_ctorF (X : Stand p l e R s m₀ args below meth c W [] 0 0) (hexec : p.tables.exec = Jvm.exec) (htr : e.platform.stackTraces = false) {own F : String} {ic nF : Nat}
    (hown : s.vm.findClass own = some m₀.cls)
    (h : ∀ a ∈ sd_atF own ic F nF, a.before args s = true)
    {a : Addr} {cX : ClassId} {cell : Cell} (hfound : s.vm.findClass F = some cX) (hcell : W.heap[a]? = some cell) (hccl : cell.cls = cX) (hcvm : cell.vm = .none) (hmo : cell.monitor.owner = none) (hmc : cell.monitor.count = 0)
    (hback : ∀ (cB : ClassId) (kB : Class) (iB : Nat) (fB : Field), s.fieldFound? Bundle.tN "backtrace" "Ljava/lang/Object;" = some (cB, kB, iB, fB) → cell.slots[fB.slot]? = some .null)
    (hC : sd_there s cell "cause" "Ljava/lang/Throwable;") (hS : sd_there s cell "stackTrace" Bundle.steD) (hP : sd_there s cell "suppressedExceptions" Bundle.listD)
    {g : JFrame} (hg : g.method = m₀) (hsize : g.locals.size = c.maxLocals) {rest : List Value} (hstack : g.stack = .ref a :: rest)
    (hd6 : decode c.code g.pc = .ok (.invokespecial ic, 3))
    (hRframes : 3 < R.frames) (hRlocals : 2 * g.monitorRoom + (rest.map fun v => v.category).sum + 54 ≤ R.locals) :
    ∃ (V : State) (ce : Cell) (L : List Loc), Stand p l e R s m₀ args below meth c (V.setCell a ce) L 0 0 ∧ (∀ y ∈ L, y.base = a) ∧ a < V.heap.size ∧ V.heap = W.heap ∧ ce.cls = cX ∧ ce.vm = .none ∧
      (∀ (O n d : String) (cf : ClassId) (kf : Class) (fi : Nat) (f : Field), ((Cond.lays F O n d).before args s = true ∨ (Cond.laysFinal F O n d).before args s = true) → s.fieldFound? O n d = some (cf, kf, fi, f) → f.name ≠ "cause" → f.name ≠ "stackTrace" → f.name ≠ "suppressedExceptions" → ce.slots[f.slot]? = cell.slots[f.slot]?) ∧
      ∀ target, Steps p.tables e below ((V.setCell a ce).setTop { g with stack := rest, pc := g.pc + 3 }) target → Steps p.tables e below (W.setTop g) target := by
  have howns : e.platform.frameOwnsMonitors = true := by rw [X.admits.platform]
  have hfin : e.platform.finalization = false := by rw [X.admits.platform]
  have hpl : e.platform.magicAccessors = ({} : Platform).magicAccessors := by rw [X.admits.platform]
  have a' : ∀ x, x ∈ sd_atF own ic F nF → x.holds args s none s [] = true := fun x hx => h x hx
  have hcls : Bundle.fit "java/lang/Exception" = true := by decide +kernel
  obtain ⟨T, Z, L, LZ, Y⟩ := ThrowableC.of_atoms (args := args) howns hfin hpl (fun x hx => h x (by simp [sd_atF, hx]))
  obtain ⟨P1, Ps, hlen, L1, hL, hP1m, hlink1, hlink⟩ := Bundle.chain0 (args := args) hpl Y.init0 [] "java/lang/Exception" hcls (fun _ hn => nomatch hn) (fun x hx => h x (by simp [sd_atF, hx]))
  obtain ⟨c1, kX, hc1, hk, hord, -, -, hn6⟩ := Cond.instantiable_spec (a' (.instantiable F nF) (by simp [sd_atF]))
  cases Option.some.inj (hc1.symm.trans hfound)
  have hsel0 : selectMethod e.platform s.vm cell.cls T.fill0 = .method T.fill0 := by
    obtain ⟨c2, r2, m2, q1, q2, q3, q4, -⟩ := Cond.selects_spec (a' (.selects F Bundle.tFill0 Bundle.tFill0) (by simp [sd_atF]))
    cases Option.some.inj (q1.symm.trans hfound)
    cases Option.some.inj (q2.symm.trans (State.methodFound?_of_named Y.fill0 (by decide)))
    cases Option.some.inj (q3.symm.trans Y.fill0)
    rw [Launch.admits_selectMethod X.admits, hccl]; exact q4
  have hselF : selectMethod e.platform s.vm cell.cls T.fill = .method T.fill := by
    obtain ⟨c2, r2, m2, q1, q2, q3, q4, -⟩ := Cond.selects_spec (a' (.selects F Bundle.tFill Bundle.tFill) (by simp [sd_atF]))
    cases Option.some.inj (q1.symm.trans hfound)
    cases Option.some.inj (q2.symm.trans (State.methodFound?_of_named Y.fill (by decide)))
    cases Option.some.inj (q3.symm.trans Y.fill)
    rw [Launch.admits_selectMethod X.admits, hccl]; exact q4
  obtain ⟨cellS0, hcS0, hiss⟩ := Y.statics
  obtain ⟨u0, hu0⟩ := Cond.staticRefV Y.unassigned L.unassignedStatic L.statics hcS0 hiss (a' (.isRef (.static Bundle.tN "UNASSIGNED_STACK" Bundle.steD)) (by simp [sd_atF]))
  obtain ⟨sen, hsen⟩ := Cond.staticRefV Y.sentinel L.sentinelStatic L.statics hcS0 hiss (a' (.isRef (.static Bundle.tN "SUPPRESSED_SENTINEL" Bundle.listD)) (by simp [sd_atF]))
  obtain ⟨ci198, i198, fB, hk198, hg198, ha198, hsB, -, hnB, htB, hffB⟩ := Cond.ownField (t := .object "java/lang/Object") Y.found L.cls (by decide +kernel) (a' (.fieldLink Bundle.tN 198 Bundle.tN "backtrace" "Ljava/lang/Object;") (by simp [sd_atF])) (a' (.lays Bundle.tN Bundle.tN "backtrace" "Ljava/lang/Object;") (by simp [sd_atF])) e.platform hpl
  obtain ⟨cellS, hcS', heS, -, hkeep⟩ := X.same.2.2.2.2.2 T.aS cellS0 hcS0
  have hcellS : W.heap[T.aS]? = some cellS := hcS'
  have hissS : cellS.vm.isStatics = true := by rw [heS]; exact hiss
  have hknownS : cellS.vm ≠ .unknown := by
    intro hu
    rw [hu] at hissS
    cases hissS
  have hneS : T.aS ≠ a := by
    intro z
    rw [z] at hcellS
    cases hcellS.symm.trans hcell
    rw [hcvm] at hissS
    cases hissS
  obtain ⟨iM, hffM⟩ := Y.msg
  obtain ⟨tyC, dC, hdC, hdnC⟩ := Cond.laysAt hfound hk Y.cause (a' (.lays F Bundle.tN "cause" "Ljava/lang/Throwable;") (by simp [sd_atF]))
  obtain ⟨tyS, dS, hdS, hdnS⟩ := Cond.laysAt hfound hk Y.stack (a' (.lays F Bundle.tN "stackTrace" Bundle.steD) (by simp [sd_atF]))
  obtain ⟨tyP, dP, hdP, hdnP⟩ := Cond.laysAt hfound hk Y.supp (a' (.lays F Bundle.tN "suppressedExceptions" Bundle.listD) (by simp [sd_atF]))
  obtain ⟨tyB, dB, hdB, hdnB⟩ := Cond.laysAt hfound hk hffB (a' (.lays F Bundle.tN "backtrace" "Ljava/lang/Object;") (by simp [sd_atF]))
  have bC := Cond.laysApart hdB hdC hdnB hdnC (by rw [hnB, Y.causeName]; decide)
  have bS := Cond.laysApart hdB hdS hdnB hdnS (by rw [hnB, Y.stackName]; decide)
  have bP := Cond.laysApart hdB hdP hdnB hdnP (by rw [hnB, Y.suppName]; decide)
  have hbk := hback _ _ _ _ hffB
  have hskip : SkipFacts T e.platform s (fun u => u) u0 ((preparedCellV T.toThrowableT cell a u0 sen).withEntry W.cur) :=
    ⟨{ ci198 := ci198, i198 := i198, fBack := fB }, ⟨hk198, hg198, ha198, hsB⟩, by
      simpa [preparedCellV, Cell.setSlot, Cell.withEntry, Array.getElem?_setIfInBounds, bC, bS, bP, bC.symm, bS.symm, bP.symm, defaultValue] using hbk, fun _ _ => rfl⟩
  obtain ⟨tm, methC, cdC, kC, vm₁, hnC, -, -, -, -, -, -, -, hW₁, st1⟩ := Steps.initCold (tb := p.tables) (e := e) (below := below) (s := s) (U := W) X.here hexec X.warmed hpl hown (t := Bundle.init0 "java/lang/Exception") rfl rfl (Bundle.fit_spec hcls).2
    (a' (.methodLink own ic (Bundle.init0 "java/lang/Exception")) (by simp [sd_atF])) (h (.instanceMethod (Bundle.init0 "java/lang/Exception")) (by simp [sd_atF, Bundle.chain0Atoms, Bundle.passAtoms])) (bytes := Bundle.five) (maxL := 1) (h (.code (Bundle.init0 "java/lang/Exception") Bundle.five 1 none) (by simp [sd_atF, Bundle.chain0Atoms, Bundle.passAtoms]))
    (f := g) hg (a := a) (rest := rest) hstack hd6
  cases Option.some.inj (hnC.symm.trans hP1m)
  have X₁ := X.noted hW₁
  obtain ⟨vm₂, X₂, st2⟩ := X₁.ctorPlainOffV hexec (g := { g with stack := rest }) hg hsize T L Z LZ (P1 :: Ps)
    (fun P hP => by rcases List.mem_cons.mp hP with rfl | hP; exact L1; exact hL P hP) ⟨hlink1, hlink⟩ (u0 := u0) (sen := sen) (self := a) (cell := cell) (cellS := cellS)
    hcell (fun k z => by rw [hcvm] at z; cases z) (by rw [hcvm]; exact fun z => by cases z) hmo hmc hsel0 hselF hcellS hneS hknownS (by rw [hkeep _ (fun z => nomatch z)]; exact hu0) (by rw [hkeep _ (fun z => nomatch z)]; exact hsen)
    (sd_takes (by rw [hccl]; exact hk) hcvm hord tyC (by rw [Y.causeType]; rfl) (hC _ _ _ _ Y.cause)) (sd_takes (by rw [hccl]; exact hk) hcvm hord tyS (by rw [Y.stackType]; exact fits_refV_array _ u0) (hS _ _ _ _ Y.stack)) (sd_takes (by rw [hccl]; exact hk) hcvm hord tyP (by rw [Y.suppType]; exact fits_refV_object _ sen) (hP _ _ _ _ Y.supp)) Y.objLocals hskip htr [] hd6
    (by simp only [List.length_cons, hlen, List.length_nil]; omega) (by simp only [List.length_cons, hlen, List.length_nil]; exact hRlocals)
  have hlt : a < ((W.setVm vm₁).setVm vm₂).heap.size := (Array.getElem?_eq_some_iff.mp hcell).1
  refine ⟨(W.setVm vm₁).setVm vm₂, _, _, X₂, fun y hy => ?_, hlt, rfl, hccl, hcvm, fun O n d cf kf fi f hlay hff n1 n2 n3 => ?_, fun target hwalk => st1 _ (fun acts => ?_)⟩
  · simp only [List.nil_append, List.mem_cons, List.not_mem_nil, or_false] at hy
    rcases hy with rfl | rfl | rfl | rfl <;> rfl
  · have k1 := u_apart hlay (Or.inl (a' (.lays F Bundle.tN "cause" "Ljava/lang/Throwable;") (by simp [sd_atF]))) hff Y.cause (by rw [Y.causeName]; exact n1)
    have k2 := u_apart hlay (Or.inl (a' (.lays F Bundle.tN "stackTrace" Bundle.steD) (by simp [sd_atF]))) hff Y.stack (by rw [Y.stackName]; exact n2)
    have k3 := u_apart hlay (Or.inl (a' (.lays F Bundle.tN "suppressedExceptions" Bundle.listD) (by simp [sd_atF]))) hff Y.supp (by rw [Y.suppName]; exact n3)
    simp [preparedCellV, Cell.setSlot, Array.getElem?_setIfInBounds, k1.symm, k2.symm, k3.symm]
  · rw [doInvoke_state]
    exact st2 _ hwalk
end SJF
