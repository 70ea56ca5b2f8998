/-! THE JUDGEMENT: from a place of a method's code, with these locals, this stack and this abstract heap, the method comes to its end, with the answer and the heap that its function says -/
/-- a method: its name, code, locals, answer, handlers -/
abbrev sd_Y : Type := MethodName × ByteArray × Nat × Option FieldType × Option (List (Nat × Nat × Nat × Nat))
def sd_ws (Y : sd_Y) : List Cond := match Y.2.2.2.2 with
  | none => ws_ Y.1 Y.2.1 Y.2.2.1 Y.2.2.2.1
  | some hh => wsW_ Y.1 Y.2.1 Y.2.2.1 Y.2.2.2.1 hh
def sd_tb (Y : sd_Y) : List ExceptionTableEntry := match Y.2.2.2.2 with
  | none => []
  | some hh => tableOf hh
/-- a run of it: launch, fixed things; frames, locals' words; arguments; outcome (returned, or thrown at) and heap behind it; new cells, new slots -/
abbrev sd_X : Type := (Launch × sd_G) × (Nat × Nat) × List Value × ((Option Value ⊕ Nat) × sd_H) × (Nat × Nat)
def sd_rm (X : sd_X) : Room := { frames := X.2.1.1, cells := X.2.2.2.2.1, slots := X.2.2.2.2.2, locals := X.2.1.2 }
def sd_Qc (X : sd_X) : Array Value → State → Outcome → State → Prop := fun _ _ o t => ∃ v, X.2.2.2.1.1 = .inl v ∧ o = .returned v ∧ sd_R X.1.2 X.2.2.2.1.2 t.heap
def sd_XC (X : sd_X) : Nat → String → State → State → Prop := fun q _ _ t => X.2.2.2.1.1 = .inr q ∧ sd_R X.1.2 X.2.2.2.1.2 t.heap
def sd_fr (X : sd_X) : Addr → Prop := fun q => sd_z X.1.2 ≤ q
def sd_Met (Y : sd_Y) (X : sd_X) (h : sd_H) : Prop := vy_Met X.1.1 Y.1 (sd_ws Y) (sd_rm X) (va_Pc X.2.2.1 (fun U => sd_K X.1.2 U ∧ sd_R X.1.2 h U.heap)) (sd_Qc X) (sd_XC X) X.2.2.2.2.1 X.2.2.2.2.2 (sd_fr X)
def sd_C (Y : sd_Y) (X : sd_X) (p : Program) (s : State) (m : MethodId) (meth : Method) (cd : Code) : Prop :=
  p.tables.exec = Jvm.exec ∧ cd.code = Y.2.1 ∧ meth.sig.returnType = Y.2.2.2.1 ∧ cd.maxLocals = Y.2.2.1 ∧ s.vm.findClass Y.1.cls = some m.cls ∧ (∀ w ∈ lw_all, w.before X.2.2.1.toArray s = true) ∧ meth.locks = false ∧ meth.name = Y.1.name ∧ cd.exceptionTable.toList = sd_tb Y ∧ sd_K X.1.2 s
def sd_J (Y : sd_Y) (X : sd_X) (pc : Nat) (L : List (Nat × Value)) (st : List Value) (h : sd_H) (c : Nat × Nat) : Prop :=
  ∀ (p : Program) (e : Env) (s : State) (m : MethodId) (below : List Frame) (meth : Method) (cd : Code) (ls : Array Slot) (H : Heap) (locs : List Loc) (cells slots : Nat),
    sd_C Y X p s m meth cd → sd_R X.1.2 h H → (∀ z ∈ locs, sd_z X.1.2 ≤ z.base) → lv_has ls Y.2.2.1 L → cells + c.1 ≤ X.2.2.2.2.1 → slots + c.2 ≤ X.2.2.2.2.2 →
    W p X.1.1 e (sd_rm X) s m X.2.2.1.toArray below meth cd H locs cells slots (vy_MQ below (sd_Qc X) (sd_XC X) X.2.2.1.toArray s X.2.2.2.2.1 X.2.2.2.2.2 (sd_fr X)) (F0 m pc ls st)
theorem sd_ws_in {Y : sd_Y} : ∀ w ∈ lw_all, w ∈ sd_ws Y := by
  intro w hw
  unfold sd_ws
  split
  · exact List.mem_cons_of_mem _ hw
  · exact List.mem_cons_of_mem _ hw
/-- the model has rows of its own only for Math's methods on floats and doubles (after JP1 of the library) -/
def sd_fds : List String := ["(D)D", "(DD)D", "(DDD)D", "(F)F", "(FF)F", "(FFF)F"]
theorem sd_mathRows : (Jvm.natives.all fun r => r.cls != "java/lang/Math" || sd_fds.contains r.desc) = true := by decide +kernel
theorem sd_mathPlain {x : MethodName} (hc : x.cls = "java/lang/Math") (hd : sd_fds.contains x.desc = false) : plainFor x = true := by
  unfold plainFor
  rw [Bool.or_eq_true]; right
  rw [Option.isNone_iff_eq_none, NativeRow.find?, List.find?_eq_none]
  intro r hr h
  have := List.all_eq_true.mp sd_mathRows r hr
  simp only [Bool.and_eq_true, beq_iff_eq] at h
  rw [h.1.2, h.2, hc, hd] at this
  simp at this
/-- a method's contract, out of the judgement at its entry -/
theorem sd_entry {Y : sd_Y} {X : sd_X} {h : sd_H} (hy : plainFor Y.1 = true) (hh : Y.2.2.2.2 = none) (hn : (lg_sl X.2.2.1).length ≤ Y.2.2.1) (k : sd_J Y X 0 (lv_args 0 X.2.2.1) [] h X.2.2.2.2) : sd_Met Y X h := by
  refine vy_ofW (cc := Y.2.1) (maxL := Y.2.2.1) (ret := Y.2.2.2.1) (ws' := lw_all) hy (by unfold sd_ws; rw [hh]) ?_
  intro p e s m args below meth cd g1 g2 g3 g4 g5 g6 g7 g8 g9 g10 hv
  obtain ⟨rfl, hK, hR⟩ := hv
  have hl := lv_entry X.2.2.1 hn
  rw [lg_entry_eq]
  refine k p e s m below meth cd _ s.heap [] 0 0 ⟨g1, g2, g3, g4, findClass_of_methodNamed g5, fun w hw => g9 w (sd_ws_in w hw), g8, (name_of_methodNamed g5 g6).1, ?_, hK⟩ hR (fun _ hz => nomatch hz) hl (by omega) (by omega)
  unfold sd_tb
  rw [hh]
  exact g10

section SJ
variable {Y : sd_Y} {X : sd_X} {pc : Nat} {L : List (Nat × Value)} {st : List Value} {h : sd_H} {c : Nat × Nat}
theorem sj_iconst {n : Int} {v : Int32} (d : decode Y.2.1 pc = .ok (.iconst n, 1)) (hv : Int32.ofInt n = v) (k : sd_J Y X (pc + 1) L (.int v :: st) h c) : sd_J Y X pc L (st) h c := fun p e s m below meth cd ls H locs cells slots C hR hz hl b1 b2 => lv_iconst C.1 C.2.1 d hv (k p e s m below meth cd ls H locs cells slots C hR hz hl b1 b2)
theorem sj_bipush {n : Int} {v : Int32} (d : decode Y.2.1 pc = .ok (.bipush n, 2)) (hv : (Int8.ofInt n).toInt32 = v) (k : sd_J Y X (pc + 2) L (.int v :: st) h c) : sd_J Y X pc L (st) h c := fun p e s m below meth cd ls H locs cells slots C hR hz hl b1 b2 => lv_bipush C.1 C.2.1 d hv (k p e s m below meth cd ls H locs cells slots C hR hz hl b1 b2)
theorem sj_sipush {n : Int} {v : Int32} (d : decode Y.2.1 pc = .ok (.sipush n, 3)) (hv : (Int16.ofInt n).toInt32 = v) (k : sd_J Y X (pc + 3) L (.int v :: st) h c) : sd_J Y X pc L (st) h c := fun p e s m below meth cd ls H locs cells slots C hR hz hl b1 b2 => lv_sipush C.1 C.2.1 d hv (k p e s m below meth cd ls H locs cells slots C hR hz hl b1 b2)
theorem sj_lconst {n : Fin 2} {v : Int64} (d : decode Y.2.1 pc = .ok (.lconst n, 1)) (hv : Int64.ofNat (n : Nat) = v) (k : sd_J Y X (pc + 1) L (.long v :: st) h c) : sd_J Y X pc L (st) h c := fun p e s m below meth cd ls H locs cells slots C hR hz hl b1 b2 => lv_lconst C.1 C.2.1 d hv (k p e s m below meth cd ls H locs cells slots C hR hz hl b1 b2)
theorem sj_dconst0  (d : decode Y.2.1 pc = .ok (.dconst 0, 1))  (k : sd_J Y X (pc + 1) L (.double FP.dconst0 :: st) h c) : sd_J Y X pc L (st) h c := fun p e s m below meth cd ls H locs cells slots C hR hz hl b1 b2 => lv_dconst0 C.1 C.2.1 d  (k p e s m below meth cd ls H locs cells slots C hR hz hl b1 b2)
theorem sj_null  (d : decode Y.2.1 pc = .ok (.aconst_null, 1))  (k : sd_J Y X (pc + 1) L (.null :: st) h c) : sd_J Y X pc L (st) h c := fun p e s m below meth cd ls H locs cells slots C hR hz hl b1 b2 => lv_null C.1 C.2.1 d  (k p e s m below meth cd ls H locs cells slots C hR hz hl b1 b2)
theorem sj_iadd {x y : Int32} (d : decode Y.2.1 pc = .ok (.iadd, 1))  (k : sd_J Y X (pc + 1) L (.int (x + y) :: st) h c) : sd_J Y X pc L (.int y :: .int x :: st) h c := fun p e s m below meth cd ls H locs cells slots C hR hz hl b1 b2 => lv_iadd C.1 C.2.1 d  (k p e s m below meth cd ls H locs cells slots C hR hz hl b1 b2)
theorem sj_isub {x y : Int32} (d : decode Y.2.1 pc = .ok (.isub, 1))  (k : sd_J Y X (pc + 1) L (.int (x - y) :: st) h c) : sd_J Y X pc L (.int y :: .int x :: st) h c := fun p e s m below meth cd ls H locs cells slots C hR hz hl b1 b2 => lv_isub C.1 C.2.1 d  (k p e s m below meth cd ls H locs cells slots C hR hz hl b1 b2)
theorem sj_imul {x y : Int32} (d : decode Y.2.1 pc = .ok (.imul, 1))  (k : sd_J Y X (pc + 1) L (.int (x * y) :: st) h c) : sd_J Y X pc L (.int y :: .int x :: st) h c := fun p e s m below meth cd ls H locs cells slots C hR hz hl b1 b2 => lv_imul C.1 C.2.1 d  (k p e s m below meth cd ls H locs cells slots C hR hz hl b1 b2)
theorem sj_iand {x y : Int32} (d : decode Y.2.1 pc = .ok (.iand, 1))  (k : sd_J Y X (pc + 1) L (.int (x &&& y) :: st) h c) : sd_J Y X pc L (.int y :: .int x :: st) h c := fun p e s m below meth cd ls H locs cells slots C hR hz hl b1 b2 => lv_iand C.1 C.2.1 d  (k p e s m below meth cd ls H locs cells slots C hR hz hl b1 b2)
theorem sj_ior {x y : Int32} (d : decode Y.2.1 pc = .ok (.ior, 1))  (k : sd_J Y X (pc + 1) L (.int (x ||| y) :: st) h c) : sd_J Y X pc L (.int y :: .int x :: st) h c := fun p e s m below meth cd ls H locs cells slots C hR hz hl b1 b2 => lv_ior C.1 C.2.1 d  (k p e s m below meth cd ls H locs cells slots C hR hz hl b1 b2)
theorem sj_ixor {x y : Int32} (d : decode Y.2.1 pc = .ok (.ixor, 1))  (k : sd_J Y X (pc + 1) L (.int (x ^^^ y) :: st) h c) : sd_J Y X pc L (.int y :: .int x :: st) h c := fun p e s m below meth cd ls H locs cells slots C hR hz hl b1 b2 => lv_ixor C.1 C.2.1 d  (k p e s m below meth cd ls H locs cells slots C hR hz hl b1 b2)
theorem sj_ladd {x y : Int64} (d : decode Y.2.1 pc = .ok (.ladd, 1))  (k : sd_J Y X (pc + 1) L (.long (x + y) :: st) h c) : sd_J Y X pc L (.long y :: .long x :: st) h c := fun p e s m below meth cd ls H locs cells slots C hR hz hl b1 b2 => lv_ladd C.1 C.2.1 d  (k p e s m below meth cd ls H locs cells slots C hR hz hl b1 b2)
theorem sj_lsub {x y : Int64} (d : decode Y.2.1 pc = .ok (.lsub, 1))  (k : sd_J Y X (pc + 1) L (.long (x - y) :: st) h c) : sd_J Y X pc L (.long y :: .long x :: st) h c := fun p e s m below meth cd ls H locs cells slots C hR hz hl b1 b2 => lv_lsub C.1 C.2.1 d  (k p e s m below meth cd ls H locs cells slots C hR hz hl b1 b2)
theorem sj_lmul {x y : Int64} (d : decode Y.2.1 pc = .ok (.lmul, 1))  (k : sd_J Y X (pc + 1) L (.long (x * y) :: st) h c) : sd_J Y X pc L (.long y :: .long x :: st) h c := fun p e s m below meth cd ls H locs cells slots C hR hz hl b1 b2 => lv_lmul C.1 C.2.1 d  (k p e s m below meth cd ls H locs cells slots C hR hz hl b1 b2)
theorem sj_land {x y : Int64} (d : decode Y.2.1 pc = .ok (.land, 1))  (k : sd_J Y X (pc + 1) L (.long (x &&& y) :: st) h c) : sd_J Y X pc L (.long y :: .long x :: st) h c := fun p e s m below meth cd ls H locs cells slots C hR hz hl b1 b2 => lv_land C.1 C.2.1 d  (k p e s m below meth cd ls H locs cells slots C hR hz hl b1 b2)
theorem sj_lor {x y : Int64} (d : decode Y.2.1 pc = .ok (.lor, 1))  (k : sd_J Y X (pc + 1) L (.long (x ||| y) :: st) h c) : sd_J Y X pc L (.long y :: .long x :: st) h c := fun p e s m below meth cd ls H locs cells slots C hR hz hl b1 b2 => lv_lor C.1 C.2.1 d  (k p e s m below meth cd ls H locs cells slots C hR hz hl b1 b2)
theorem sj_lxor {x y : Int64} (d : decode Y.2.1 pc = .ok (.lxor, 1))  (k : sd_J Y X (pc + 1) L (.long (x ^^^ y) :: st) h c) : sd_J Y X pc L (.long y :: .long x :: st) h c := fun p e s m below meth cd ls H locs cells slots C hR hz hl b1 b2 => lv_lxor C.1 C.2.1 d  (k p e s m below meth cd ls H locs cells slots C hR hz hl b1 b2)
theorem sj_ineg {x : Int32} (d : decode Y.2.1 pc = .ok (.ineg, 1))  (k : sd_J Y X (pc + 1) L (.int (-x) :: st) h c) : sd_J Y X pc L (.int x :: st) h c := fun p e s m below meth cd ls H locs cells slots C hR hz hl b1 b2 => lv_ineg C.1 C.2.1 d  (k p e s m below meth cd ls H locs cells slots C hR hz hl b1 b2)
theorem sj_idiv {x y : Int32} (d : decode Y.2.1 pc = .ok (.idiv, 1)) (hne : ¬ y = 0) (k : sd_J Y X (pc + 1) L (.int (x / y) :: st) h c) : sd_J Y X pc L (.int y :: .int x :: st) h c := fun p e s m below meth cd ls H locs cells slots C hR hz hl b1 b2 => lv_idiv C.1 C.2.1 d hne (k p e s m below meth cd ls H locs cells slots C hR hz hl b1 b2)
theorem sj_irem {x y : Int32} (d : decode Y.2.1 pc = .ok (.irem, 1)) (hne : ¬ y = 0) (k : sd_J Y X (pc + 1) L (.int (x - x / y * y) :: st) h c) : sd_J Y X pc L (.int y :: .int x :: st) h c := fun p e s m below meth cd ls H locs cells slots C hR hz hl b1 b2 => lv_irem C.1 C.2.1 d hne (k p e s m below meth cd ls H locs cells slots C hR hz hl b1 b2)
theorem sj_ishl {x y : Int32} (d : decode Y.2.1 pc = .ok (.ishl, 1))  (k : sd_J Y X (pc + 1) L (.int (x <<< (y &&& 31)) :: st) h c) : sd_J Y X pc L (.int y :: .int x :: st) h c := fun p e s m below meth cd ls H locs cells slots C hR hz hl b1 b2 => lv_ishl C.1 C.2.1 d  (k p e s m below meth cd ls H locs cells slots C hR hz hl b1 b2)
theorem sj_ishr {x y : Int32} (d : decode Y.2.1 pc = .ok (.ishr, 1))  (k : sd_J Y X (pc + 1) L (.int (x >>> (y &&& 31)) :: st) h c) : sd_J Y X pc L (.int y :: .int x :: st) h c := fun p e s m below meth cd ls H locs cells slots C hR hz hl b1 b2 => lv_ishr C.1 C.2.1 d  (k p e s m below meth cd ls H locs cells slots C hR hz hl b1 b2)
theorem sj_iushr {x y : Int32} (d : decode Y.2.1 pc = .ok (.iushr, 1))  (k : sd_J Y X (pc + 1) L (.int ((x.toUInt32 >>> (y.toUInt32 &&& Int32.toUInt32 31)).toInt32) :: st) h c) : sd_J Y X pc L (.int y :: .int x :: st) h c := fun p e s m below meth cd ls H locs cells slots C hR hz hl b1 b2 => lv_iushr C.1 C.2.1 d rfl (k p e s m below meth cd ls H locs cells slots C hR hz hl b1 b2)
theorem sj_i2l {x : Int32} (d : decode Y.2.1 pc = .ok (.i2l, 1))  (k : sd_J Y X (pc + 1) L (.long x.toInt64 :: st) h c) : sd_J Y X pc L (.int x :: st) h c := fun p e s m below meth cd ls H locs cells slots C hR hz hl b1 b2 => lv_i2l C.1 C.2.1 d rfl (k p e s m below meth cd ls H locs cells slots C hR hz hl b1 b2)
theorem sj_l2i {x : Int64} (d : decode Y.2.1 pc = .ok (.l2i, 1))  (k : sd_J Y X (pc + 1) L (.int x.toInt32 :: st) h c) : sd_J Y X pc L (.long x :: st) h c := fun p e s m below meth cd ls H locs cells slots C hR hz hl b1 b2 => lv_l2i C.1 C.2.1 d rfl (k p e s m below meth cd ls H locs cells slots C hR hz hl b1 b2)
theorem sj_i2b {x : Int32} (d : decode Y.2.1 pc = .ok (.i2b, 1))  (k : sd_J Y X (pc + 1) L (.int x.toInt8.toInt32 :: st) h c) : sd_J Y X pc L (.int x :: st) h c := fun p e s m below meth cd ls H locs cells slots C hR hz hl b1 b2 => lv_i2b C.1 C.2.1 d rfl (k p e s m below meth cd ls H locs cells slots C hR hz hl b1 b2)
theorem sj_i2c {x : Int32} (d : decode Y.2.1 pc = .ok (.i2c, 1))  (k : sd_J Y X (pc + 1) L (.int (x.toUInt32 % 65536).toInt32 :: st) h c) : sd_J Y X pc L (.int x :: st) h c := fun p e s m below meth cd ls H locs cells slots C hR hz hl b1 b2 => lv_i2c C.1 C.2.1 d rfl (k p e s m below meth cd ls H locs cells slots C hR hz hl b1 b2)
theorem sj_i2d {x : Int32} (d : decode Y.2.1 pc = .ok (.i2d, 1))  (k : sd_J Y X (pc + 1) L (.double (FP.i2d x) :: st) h c) : sd_J Y X pc L (.int x :: st) h c := fun p e s m below meth cd ls H locs cells slots C hR hz hl b1 b2 => lv_i2d C.1 C.2.1 d  (k p e s m below meth cd ls H locs cells slots C hR hz hl b1 b2)
theorem sj_ddiv {x y : UInt64} (d : decode Y.2.1 pc = .ok (.ddiv, 1)) (hne : vf_n64 (FP.ddiv x y)) (k : sd_J Y X (pc + 1) L (.double (FP.ddiv x y) :: st) h c) : sd_J Y X pc L (.double y :: .double x :: st) h c := fun p e s m below meth cd ls H locs cells slots C hR hz hl b1 b2 => lv_ddiv C.1 C.2.1 d hne (k p e s m below meth cd ls H locs cells slots C hR hz hl b1 b2)
theorem sj_dcmp {x y : UInt64} {op : CmpOp} (d : decode Y.2.1 pc = .ok (.dcmp op, 1))  (k : sd_J Y X (pc + 1) L (.int (Op.cmpValue (FP.dcmp x y) op) :: st) h c) : sd_J Y X pc L (.double y :: .double x :: st) h c := fun p e s m below meth cd ls H locs cells slots C hR hz hl b1 b2 => lv_dcmp C.1 C.2.1 d  (k p e s m below meth cd ls H locs cells slots C hR hz hl b1 b2)
theorem sj_lcmp {x y : Int64} (d : decode Y.2.1 pc = .ok (.lcmp, 1))  (k : sd_J Y X (pc + 1) L (.int (lg_cmp x y) :: st) h c) : sd_J Y X pc L (.long y :: .long x :: st) h c := fun p e s m below meth cd ls H locs cells slots C hR hz hl b1 b2 => W.lcmp C.1 C.2.1 d  (k p e s m below meth cd ls H locs cells slots C hR hz hl b1 b2)
theorem sj_dup {v : Value} (d : decode Y.2.1 pc = .ok (.dup, 1)) (hv : v.category = 1) (k : sd_J Y X (pc + 1) L (v :: v :: st) h c) : sd_J Y X pc L (v :: st) h c := fun p e s m below meth cd ls H locs cells slots C hR hz hl b1 b2 => lv_dup C.1 C.2.1 d hv (k p e s m below meth cd ls H locs cells slots C hR hz hl b1 b2)
theorem sj_pop {v : Value} (d : decode Y.2.1 pc = .ok (.pop, 1)) (hv : v.category = 1) (k : sd_J Y X (pc + 1) L (st) h c) : sd_J Y X pc L (v :: st) h c := fun p e s m below meth cd ls H locs cells slots C hR hz hl b1 b2 => lv_pop C.1 C.2.1 d hv (k p e s m below meth cd ls H locs cells slots C hR hz hl b1 b2)
theorem sj_dup_x1 {v w : Value} (d : decode Y.2.1 pc = .ok (.dup_x1, 1)) (hv : v.category = 1) (hw : w.category = 1) (k : sd_J Y X (pc + 1) L (v :: w :: v :: st) h c) : sd_J Y X pc L (v :: w :: st) h c := fun p e s m below meth cd ls H locs cells slots C hR hz hl b1 b2 => lv_dup_x1 C.1 C.2.1 d hv hw (k p e s m below meth cd ls H locs cells slots C hR hz hl b1 b2)
theorem sj_dup2 {v w : Value} (d : decode Y.2.1 pc = .ok (.dup2, 1)) (hv : v.category = 1) (hw : w.category = 1) (k : sd_J Y X (pc + 1) L (v :: w :: v :: w :: st) h c) : sd_J Y X pc L (v :: w :: st) h c := fun p e s m below meth cd ls H locs cells slots C hR hz hl b1 b2 => lv_dup2_11 C.1 C.2.1 d hv hw (k p e s m below meth cd ls H locs cells slots C hR hz hl b1 b2)
theorem sj_dup2l {v : Value} (d : decode Y.2.1 pc = .ok (.dup2, 1)) (hv : v.category = 2) (k : sd_J Y X (pc + 1) L (v :: v :: st) h c) : sd_J Y X pc L (v :: st) h c := fun p e s m below meth cd ls H locs cells slots C hR hz hl b1 b2 => lv_dup2_2 C.1 C.2.1 d hv (k p e s m below meth cd ls H locs cells slots C hR hz hl b1 b2)
theorem sj_iload_n {i : Fin 4} {x : Int32} (j : Nat) (d : decode Y.2.1 pc = .ok (.iload_n i, 1)) (hj : L[j]? = some ((i : Nat), .int x)) (k : sd_J Y X (pc + 1) L (.int x :: st) h c) : sd_J Y X pc L (st) h c := fun p e s m below meth cd ls H locs cells slots C hR hz hl b1 b2 => lv_iload_n C.1 C.2.1 d rfl (lv_at hl j hj) (k p e s m below meth cd ls H locs cells slots C hR hz hl b1 b2)
theorem sj_iload {i : Nat} {x : Int32} (j : Nat) (d : decode Y.2.1 pc = .ok (.iload i, 2)) (hj : L[j]? = some (i, .int x)) (k : sd_J Y X (pc + 2) L (.int x :: st) h c) : sd_J Y X pc L (st) h c := fun p e s m below meth cd ls H locs cells slots C hR hz hl b1 b2 => lv_iload C.1 C.2.1 d (lv_at hl j hj) (k p e s m below meth cd ls H locs cells slots C hR hz hl b1 b2)
theorem sj_istore_n {i : Fin 4} {x : Int32} (L' : List (Nat × Value)) (d : decode Y.2.1 pc = .ok (.istore_n i, 1)) (hn : (i : Nat) < Y.2.2.1) (hL : ((i : Nat), Value.int x) :: L.filter (fun q => !(q.1 == (i : Nat)) && !(q.1 + 1 == (i : Nat) && q.2.category == 2)) = L') (k : sd_J Y X (pc + 1) L' st h c) : sd_J Y X pc L (.int x :: st) h c := fun p e s m below meth cd ls H locs cells slots C hR hz hl b1 b2 => lv_istore_n C.1 C.2.1 d rfl hl hn hL (fun ls hl => k p e s m below meth cd ls H locs cells slots C hR hz hl b1 b2)
theorem sj_istore {i : Nat} {x : Int32} (L' : List (Nat × Value)) (d : decode Y.2.1 pc = .ok (.istore i, 2)) (hn : i < Y.2.2.1) (hL : (i, Value.int x) :: L.filter (fun q => !(q.1 == i) && !(q.1 + 1 == i && q.2.category == 2)) = L') (k : sd_J Y X (pc + 2) L' st h c) : sd_J Y X pc L (.int x :: st) h c := fun p e s m below meth cd ls H locs cells slots C hR hz hl b1 b2 => lv_istore C.1 C.2.1 d hl hn hL (fun ls hl => k p e s m below meth cd ls H locs cells slots C hR hz hl b1 b2)
theorem sj_lload_n {i : Fin 4} {x : Int64} (j : Nat) (d : decode Y.2.1 pc = .ok (.lload_n i, 1)) (hj : L[j]? = some ((i : Nat), .long x)) (k : sd_J Y X (pc + 1) L (.long x :: st) h c) : sd_J Y X pc L (st) h c := fun p e s m below meth cd ls H locs cells slots C hR hz hl b1 b2 => lv_lload_n C.1 C.2.1 d rfl (lv_at hl j hj) (k p e s m below meth cd ls H locs cells slots C hR hz hl b1 b2)
theorem sj_lload {i : Nat} {x : Int64} (j : Nat) (d : decode Y.2.1 pc = .ok (.lload i, 2)) (hj : L[j]? = some (i, .long x)) (k : sd_J Y X (pc + 2) L (.long x :: st) h c) : sd_J Y X pc L (st) h c := fun p e s m below meth cd ls H locs cells slots C hR hz hl b1 b2 => lv_lload C.1 C.2.1 d (lv_at hl j hj) (k p e s m below meth cd ls H locs cells slots C hR hz hl b1 b2)
theorem sj_lstore_n {i : Fin 4} {x : Int64} (L' : List (Nat × Value)) (d : decode Y.2.1 pc = .ok (.lstore_n i, 1)) (hn : (i : Nat) + 1 < Y.2.2.1) (hL : ((i : Nat), Value.long x) :: L.filter (fun q => !(q.1 == (i : Nat)) && (!(q.1 == (i : Nat) + 1) && !(q.1 + 1 == (i : Nat) && q.2.category == 2))) = L') (k : sd_J Y X (pc + 1) L' st h c) : sd_J Y X pc L (.long x :: st) h c := fun p e s m below meth cd ls H locs cells slots C hR hz hl b1 b2 => lv_lstore_n C.1 C.2.1 d rfl hl hn hL (fun ls hl => k p e s m below meth cd ls H locs cells slots C hR hz hl b1 b2)
theorem sj_lstore {i : Nat} {x : Int64} (L' : List (Nat × Value)) (d : decode Y.2.1 pc = .ok (.lstore i, 2)) (hn : i + 1 < Y.2.2.1) (hL : (i, Value.long x) :: L.filter (fun q => !(q.1 == i) && (!(q.1 == i + 1) && !(q.1 + 1 == i && q.2.category == 2))) = L') (k : sd_J Y X (pc + 2) L' st h c) : sd_J Y X pc L (.long x :: st) h c := fun p e s m below meth cd ls H locs cells slots C hR hz hl b1 b2 => lv_lstore C.1 C.2.1 d hl hn hL (fun ls hl => k p e s m below meth cd ls H locs cells slots C hR hz hl b1 b2)
theorem sj_aload_n {i : Fin 4} {x : Nat} (j : Nat) (d : decode Y.2.1 pc = .ok (.aload_n i, 1)) (hj : L[j]? = some ((i : Nat), .ref x)) (k : sd_J Y X (pc + 1) L (.ref x :: st) h c) : sd_J Y X pc L (st) h c := fun p e s m below meth cd ls H locs cells slots C hR hz hl b1 b2 => lv_aload_n C.1 C.2.1 d rfl (lv_at hl j hj) (k p e s m below meth cd ls H locs cells slots C hR hz hl b1 b2)
theorem sj_aload {i : Nat} {x : Nat} (j : Nat) (d : decode Y.2.1 pc = .ok (.aload i, 2)) (hj : L[j]? = some (i, .ref x)) (k : sd_J Y X (pc + 2) L (.ref x :: st) h c) : sd_J Y X pc L (st) h c := fun p e s m below meth cd ls H locs cells slots C hR hz hl b1 b2 => lv_aload C.1 C.2.1 d (lv_at hl j hj) (k p e s m below meth cd ls H locs cells slots C hR hz hl b1 b2)
theorem sj_astore_n {i : Fin 4} {x : Nat} (L' : List (Nat × Value)) (d : decode Y.2.1 pc = .ok (.astore_n i, 1)) (hn : (i : Nat) < Y.2.2.1) (hL : ((i : Nat), Value.ref x) :: L.filter (fun q => !(q.1 == (i : Nat)) && !(q.1 + 1 == (i : Nat) && q.2.category == 2)) = L') (k : sd_J Y X (pc + 1) L' st h c) : sd_J Y X pc L (.ref x :: st) h c := fun p e s m below meth cd ls H locs cells slots C hR hz hl b1 b2 => lv_astore_n C.1 C.2.1 d rfl hl hn hL (fun ls hl => k p e s m below meth cd ls H locs cells slots C hR hz hl b1 b2)
theorem sj_astore {i : Nat} {x : Nat} (L' : List (Nat × Value)) (d : decode Y.2.1 pc = .ok (.astore i, 2)) (hn : i < Y.2.2.1) (hL : (i, Value.ref x) :: L.filter (fun q => !(q.1 == i) && !(q.1 + 1 == i && q.2.category == 2)) = L') (k : sd_J Y X (pc + 2) L' st h c) : sd_J Y X pc L (.ref x :: st) h c := fun p e s m below meth cd ls H locs cells slots C hR hz hl b1 b2 => lv_astore C.1 C.2.1 d hl hn hL (fun ls hl => k p e s m below meth cd ls H locs cells slots C hR hz hl b1 b2)
theorem sj_dload_n {i : Fin 4} {x : UInt64} (j : Nat) (d : decode Y.2.1 pc = .ok (.dload_n i, 1)) (hj : L[j]? = some ((i : Nat), .double x)) (k : sd_J Y X (pc + 1) L (.double x :: st) h c) : sd_J Y X pc L (st) h c := fun p e s m below meth cd ls H locs cells slots C hR hz hl b1 b2 => lv_dload_n C.1 C.2.1 d rfl (lv_at hl j hj) (k p e s m below meth cd ls H locs cells slots C hR hz hl b1 b2)
theorem sj_dload {i : Nat} {x : UInt64} (j : Nat) (d : decode Y.2.1 pc = .ok (.dload i, 2)) (hj : L[j]? = some (i, .double x)) (k : sd_J Y X (pc + 2) L (.double x :: st) h c) : sd_J Y X pc L (st) h c := fun p e s m below meth cd ls H locs cells slots C hR hz hl b1 b2 => lv_dload C.1 C.2.1 d (lv_at hl j hj) (k p e s m below meth cd ls H locs cells slots C hR hz hl b1 b2)
theorem sj_dstore_n {i : Fin 4} {x : UInt64} (L' : List (Nat × Value)) (d : decode Y.2.1 pc = .ok (.dstore_n i, 1)) (hn : (i : Nat) + 1 < Y.2.2.1) (hL : ((i : Nat), Value.double x) :: L.filter (fun q => !(q.1 == (i : Nat)) && (!(q.1 == (i : Nat) + 1) && !(q.1 + 1 == (i : Nat) && q.2.category == 2))) = L') (k : sd_J Y X (pc + 1) L' st h c) : sd_J Y X pc L (.double x :: st) h c := fun p e s m below meth cd ls H locs cells slots C hR hz hl b1 b2 => lv_dstore_n C.1 C.2.1 d rfl hl hn hL (fun ls hl => k p e s m below meth cd ls H locs cells slots C hR hz hl b1 b2)
theorem sj_dstore {i : Nat} {x : UInt64} (L' : List (Nat × Value)) (d : decode Y.2.1 pc = .ok (.dstore i, 2)) (hn : i + 1 < Y.2.2.1) (hL : (i, Value.double x) :: L.filter (fun q => !(q.1 == i) && (!(q.1 == i + 1) && !(q.1 + 1 == i && q.2.category == 2))) = L') (k : sd_J Y X (pc + 2) L' st h c) : sd_J Y X pc L (.double x :: st) h c := fun p e s m below meth cd ls H locs cells slots C hR hz hl b1 b2 => lv_dstore C.1 C.2.1 d hl hn hL (fun ls hl => k p e s m below meth cd ls H locs cells slots C hR hz hl b1 b2)
theorem sj_aload_nQ {i : Fin 4} {x : Option Nat} (j : Nat) (d : decode Y.2.1 pc = .ok (.aload_n i, 1)) (hj : L[j]? = some ((i : Nat), va_rf x)) (k : sd_J Y X (pc + 1) L (va_rf x :: st) h c) : sd_J Y X pc L st h c := by
  cases x with
  | none => exact fun p e s m below meth cd ls H locs cells slots C hR hz hl b1 b2 => lv_aload_nN C.1 C.2.1 d rfl (lv_at hl j hj) (k p e s m below meth cd ls H locs cells slots C hR hz hl b1 b2)
  | some a => exact fun p e s m below meth cd ls H locs cells slots C hR hz hl b1 b2 => lv_aload_n C.1 C.2.1 d rfl (lv_at hl j hj) (k p e s m below meth cd ls H locs cells slots C hR hz hl b1 b2)
theorem sj_aloadQ {i : Nat} {x : Option Nat} (j : Nat) (d : decode Y.2.1 pc = .ok (.aload i, 2)) (hj : L[j]? = some (i, va_rf x)) (k : sd_J Y X (pc + 2) L (va_rf x :: st) h c) : sd_J Y X pc L st h c := by
  cases x with
  | none => exact fun p e s m below meth cd ls H locs cells slots C hR hz hl b1 b2 => lv_aloadN C.1 C.2.1 d (lv_at hl j hj) (k p e s m below meth cd ls H locs cells slots C hR hz hl b1 b2)
  | some a => exact fun p e s m below meth cd ls H locs cells slots C hR hz hl b1 b2 => lv_aload C.1 C.2.1 d (lv_at hl j hj) (k p e s m below meth cd ls H locs cells slots C hR hz hl b1 b2)
theorem sj_astore_nQ {i : Fin 4} {x : Option Nat} (L' : List (Nat × Value)) (d : decode Y.2.1 pc = .ok (.astore_n i, 1)) (hn : (i : Nat) < Y.2.2.1) (hL : ((i : Nat), va_rf x) :: L.filter (fun q => !(q.1 == (i : Nat)) && !(q.1 + 1 == (i : Nat) && q.2.category == 2)) = L') (k : sd_J Y X (pc + 1) L' st h c) : sd_J Y X pc L (va_rf x :: st) h c := by
  cases x with
  | none => exact fun p e s m below meth cd ls H locs cells slots C hR hz hl b1 b2 => lv_astore_nN C.1 C.2.1 d rfl hl hn hL (fun ls hl => k p e s m below meth cd ls H locs cells slots C hR hz hl b1 b2)
  | some a => exact fun p e s m below meth cd ls H locs cells slots C hR hz hl b1 b2 => lv_astore_n C.1 C.2.1 d rfl hl hn hL (fun ls hl => k p e s m below meth cd ls H locs cells slots C hR hz hl b1 b2)
theorem sj_astoreQ {i : Nat} {x : Option Nat} (L' : List (Nat × Value)) (d : decode Y.2.1 pc = .ok (.astore i, 2)) (hn : i < Y.2.2.1) (hL : (i, va_rf x) :: L.filter (fun q => !(q.1 == i) && !(q.1 + 1 == i && q.2.category == 2)) = L') (k : sd_J Y X (pc + 2) L' st h c) : sd_J Y X pc L (va_rf x :: st) h c := by
  cases x with
  | none => exact fun p e s m below meth cd ls H locs cells slots C hR hz hl b1 b2 => lv_astoreN C.1 C.2.1 d hl hn hL (fun ls hl => k p e s m below meth cd ls H locs cells slots C hR hz hl b1 b2)
  | some a => exact fun p e s m below meth cd ls H locs cells slots C hR hz hl b1 b2 => lv_astore C.1 C.2.1 d hl hn hL (fun ls hl => k p e s m below meth cd ls H locs cells slots C hR hz hl b1 b2)
theorem sj_iinc {i : Nat} {n : Int} {x : Int32} (j : Nat) (v : Int32) (L' : List (Nat × Value)) (d : decode Y.2.1 pc = .ok (.iinc i n, 3)) (hj : L[j]? = some (i, .int x)) (hv : x + Int32.ofInt n = v) (hn : i < Y.2.2.1) (hL : (i, Value.int v) :: L.filter (fun q => !(q.1 == i) && !(q.1 + 1 == i && q.2.category == 2)) = L') (k : sd_J Y X (pc + 3) L' st h c) : sd_J Y X pc L st h c := fun p e s m below meth cd ls H locs cells slots C hR hz hl b1 b2 => lv_iinc C.1 C.2.1 d hl hj hv hn hL (fun ls hl => k p e s m below meth cd ls H locs cells slots C hR hz hl b1 b2)
theorem sj_goto {off : Int} (tgt : Nat) (d : decode Y.2.1 pc = .ok (.goto off, 3)) (ht : (pc : Int) + off = (tgt : Int)) (k : sd_J Y X tgt L st h c) : sd_J Y X pc L st h c := fun p e s m below meth cd ls H locs cells slots C hR hz hl b1 b2 => lv_goto C.1 C.2.1 d ht (k p e s m below meth cd ls H locs cells slots C hR hz hl b1 b2)
theorem sj_ifeq {α : Type} {A B : sd_M α} {r : α × (Nat × Nat) × sd_H} {x : Int32} {off : Int} (tgt : Nat) (hf : (if x = 0 then A else B) h = some r) (d : decode Y.2.1 pc = .ok (.ifCond .eq off, 3)) (ht : (pc : Int) + off = (tgt : Int)) (kt : (x = 0) → A h = some r → sd_J Y X tgt L st h c) (kf : ¬ (x = 0) → B h = some r → sd_J Y X (pc + 3) L st h c) : sd_J Y X pc L (.int x :: st) h c := fun p e s m below meth cd ls H locs cells slots C hR hz hl b1 b2 => lv_if_eq C.1 C.2.1 d ht (fun q => kt q (by rw [if_pos q] at hf; exact hf) p e s m below meth cd ls H locs cells slots C hR hz hl b1 b2) (fun q => kf q (by rw [if_neg q] at hf; exact hf) p e s m below meth cd ls H locs cells slots C hR hz hl b1 b2)
theorem sj_ifne {α : Type} {A B : sd_M α} {r : α × (Nat × Nat) × sd_H} {x : Int32} {off : Int} (tgt : Nat) (hf : (if x = 0 then B else A) h = some r) (d : decode Y.2.1 pc = .ok (.ifCond .ne off, 3)) (ht : (pc : Int) + off = (tgt : Int)) (kt : ¬ (x = 0) → A h = some r → sd_J Y X tgt L st h c) (kf : (x = 0) → B h = some r → sd_J Y X (pc + 3) L st h c) : sd_J Y X pc L (.int x :: st) h c := fun p e s m below meth cd ls H locs cells slots C hR hz hl b1 b2 => lv_if_ne C.1 C.2.1 d ht (fun q => kt q (by rw [if_neg q] at hf; exact hf) p e s m below meth cd ls H locs cells slots C hR hz hl b1 b2) (fun q => kf q (by rw [if_pos q] at hf; exact hf) p e s m below meth cd ls H locs cells slots C hR hz hl b1 b2)
theorem sj_iflt {α : Type} {A B : sd_M α} {r : α × (Nat × Nat) × sd_H} {x : Int32} {off : Int} (tgt : Nat) (hf : (if x < 0 then A else B) h = some r) (d : decode Y.2.1 pc = .ok (.ifCond .lt off, 3)) (ht : (pc : Int) + off = (tgt : Int)) (kt : (x < 0) → A h = some r → sd_J Y X tgt L st h c) (kf : ¬ (x < 0) → B h = some r → sd_J Y X (pc + 3) L st h c) : sd_J Y X pc L (.int x :: st) h c := fun p e s m below meth cd ls H locs cells slots C hR hz hl b1 b2 => lv_if_lt C.1 C.2.1 d ht (fun q => kt q (by rw [if_pos q] at hf; exact hf) p e s m below meth cd ls H locs cells slots C hR hz hl b1 b2) (fun q => kf q (by rw [if_neg q] at hf; exact hf) p e s m below meth cd ls H locs cells slots C hR hz hl b1 b2)
theorem sj_ifge {α : Type} {A B : sd_M α} {r : α × (Nat × Nat) × sd_H} {x : Int32} {off : Int} (tgt : Nat) (hf : (if 0 ≤ x then A else B) h = some r) (d : decode Y.2.1 pc = .ok (.ifCond .ge off, 3)) (ht : (pc : Int) + off = (tgt : Int)) (kt : (0 ≤ x) → A h = some r → sd_J Y X tgt L st h c) (kf : ¬ (0 ≤ x) → B h = some r → sd_J Y X (pc + 3) L st h c) : sd_J Y X pc L (.int x :: st) h c := fun p e s m below meth cd ls H locs cells slots C hR hz hl b1 b2 => lv_if_ge C.1 C.2.1 d ht (fun q => kt q (by rw [if_pos q] at hf; exact hf) p e s m below meth cd ls H locs cells slots C hR hz hl b1 b2) (fun q => kf q (by rw [if_neg q] at hf; exact hf) p e s m below meth cd ls H locs cells slots C hR hz hl b1 b2)
theorem sj_ifgt {α : Type} {A B : sd_M α} {r : α × (Nat × Nat) × sd_H} {x : Int32} {off : Int} (tgt : Nat) (hf : (if 0 < x then A else B) h = some r) (d : decode Y.2.1 pc = .ok (.ifCond .gt off, 3)) (ht : (pc : Int) + off = (tgt : Int)) (kt : (0 < x) → A h = some r → sd_J Y X tgt L st h c) (kf : ¬ (0 < x) → B h = some r → sd_J Y X (pc + 3) L st h c) : sd_J Y X pc L (.int x :: st) h c := fun p e s m below meth cd ls H locs cells slots C hR hz hl b1 b2 => lv_if_gt C.1 C.2.1 d ht (fun q => kt q (by rw [if_pos q] at hf; exact hf) p e s m below meth cd ls H locs cells slots C hR hz hl b1 b2) (fun q => kf q (by rw [if_neg q] at hf; exact hf) p e s m below meth cd ls H locs cells slots C hR hz hl b1 b2)
theorem sj_ifle {α : Type} {A B : sd_M α} {r : α × (Nat × Nat) × sd_H} {x : Int32} {off : Int} (tgt : Nat) (hf : (if x ≤ 0 then A else B) h = some r) (d : decode Y.2.1 pc = .ok (.ifCond .le off, 3)) (ht : (pc : Int) + off = (tgt : Int)) (kt : (x ≤ 0) → A h = some r → sd_J Y X tgt L st h c) (kf : ¬ (x ≤ 0) → B h = some r → sd_J Y X (pc + 3) L st h c) : sd_J Y X pc L (.int x :: st) h c := fun p e s m below meth cd ls H locs cells slots C hR hz hl b1 b2 => lv_if_le C.1 C.2.1 d ht (fun q => kt q (by rw [if_pos q] at hf; exact hf) p e s m below meth cd ls H locs cells slots C hR hz hl b1 b2) (fun q => kf q (by rw [if_neg q] at hf; exact hf) p e s m below meth cd ls H locs cells slots C hR hz hl b1 b2)
theorem sj_iceq {α : Type} {A B : sd_M α} {r : α × (Nat × Nat) × sd_H} {x y : Int32} {off : Int} (tgt : Nat) (hf : (if x = y then A else B) h = some r) (d : decode Y.2.1 pc = .ok (.if_icmp .eq off, 3)) (ht : (pc : Int) + off = (tgt : Int)) (kt : (x = y) → A h = some r → sd_J Y X tgt L st h c) (kf : ¬ (x = y) → B h = some r → sd_J Y X (pc + 3) L st h c) : sd_J Y X pc L (.int y :: .int x :: st) h c := fun p e s m below meth cd ls H locs cells slots C hR hz hl b1 b2 => lv_icmp_eq C.1 C.2.1 d ht (fun q => kt q (by rw [if_pos q] at hf; exact hf) p e s m below meth cd ls H locs cells slots C hR hz hl b1 b2) (fun q => kf q (by rw [if_neg q] at hf; exact hf) p e s m below meth cd ls H locs cells slots C hR hz hl b1 b2)
theorem sj_icne {α : Type} {A B : sd_M α} {r : α × (Nat × Nat) × sd_H} {x y : Int32} {off : Int} (tgt : Nat) (hf : (if x = y then B else A) h = some r) (d : decode Y.2.1 pc = .ok (.if_icmp .ne off, 3)) (ht : (pc : Int) + off = (tgt : Int)) (kt : ¬ (x = y) → A h = some r → sd_J Y X tgt L st h c) (kf : (x = y) → B h = some r → sd_J Y X (pc + 3) L st h c) : sd_J Y X pc L (.int y :: .int x :: st) h c := fun p e s m below meth cd ls H locs cells slots C hR hz hl b1 b2 => lv_icmp_ne C.1 C.2.1 d ht (fun q => kt q (by rw [if_neg q] at hf; exact hf) p e s m below meth cd ls H locs cells slots C hR hz hl b1 b2) (fun q => kf q (by rw [if_pos q] at hf; exact hf) p e s m below meth cd ls H locs cells slots C hR hz hl b1 b2)
theorem sj_iclt {α : Type} {A B : sd_M α} {r : α × (Nat × Nat) × sd_H} {x y : Int32} {off : Int} (tgt : Nat) (hf : (if x < y then A else B) h = some r) (d : decode Y.2.1 pc = .ok (.if_icmp .lt off, 3)) (ht : (pc : Int) + off = (tgt : Int)) (kt : (x < y) → A h = some r → sd_J Y X tgt L st h c) (kf : ¬ (x < y) → B h = some r → sd_J Y X (pc + 3) L st h c) : sd_J Y X pc L (.int y :: .int x :: st) h c := fun p e s m below meth cd ls H locs cells slots C hR hz hl b1 b2 => lv_icmp_lt C.1 C.2.1 d ht (fun q => kt q (by rw [if_pos q] at hf; exact hf) p e s m below meth cd ls H locs cells slots C hR hz hl b1 b2) (fun q => kf q (by rw [if_neg q] at hf; exact hf) p e s m below meth cd ls H locs cells slots C hR hz hl b1 b2)
theorem sj_icge {α : Type} {A B : sd_M α} {r : α × (Nat × Nat) × sd_H} {x y : Int32} {off : Int} (tgt : Nat) (hf : (if y ≤ x then A else B) h = some r) (d : decode Y.2.1 pc = .ok (.if_icmp .ge off, 3)) (ht : (pc : Int) + off = (tgt : Int)) (kt : (y ≤ x) → A h = some r → sd_J Y X tgt L st h c) (kf : ¬ (y ≤ x) → B h = some r → sd_J Y X (pc + 3) L st h c) : sd_J Y X pc L (.int y :: .int x :: st) h c := fun p e s m below meth cd ls H locs cells slots C hR hz hl b1 b2 => lv_icmp_ge C.1 C.2.1 d ht (fun q => kt q (by rw [if_pos q] at hf; exact hf) p e s m below meth cd ls H locs cells slots C hR hz hl b1 b2) (fun q => kf q (by rw [if_neg q] at hf; exact hf) p e s m below meth cd ls H locs cells slots C hR hz hl b1 b2)
theorem sj_icgt {α : Type} {A B : sd_M α} {r : α × (Nat × Nat) × sd_H} {x y : Int32} {off : Int} (tgt : Nat) (hf : (if y < x then A else B) h = some r) (d : decode Y.2.1 pc = .ok (.if_icmp .gt off, 3)) (ht : (pc : Int) + off = (tgt : Int)) (kt : (y < x) → A h = some r → sd_J Y X tgt L st h c) (kf : ¬ (y < x) → B h = some r → sd_J Y X (pc + 3) L st h c) : sd_J Y X pc L (.int y :: .int x :: st) h c := fun p e s m below meth cd ls H locs cells slots C hR hz hl b1 b2 => lv_icmp_gt C.1 C.2.1 d ht (fun q => kt q (by rw [if_pos q] at hf; exact hf) p e s m below meth cd ls H locs cells slots C hR hz hl b1 b2) (fun q => kf q (by rw [if_neg q] at hf; exact hf) p e s m below meth cd ls H locs cells slots C hR hz hl b1 b2)
theorem sj_icle {α : Type} {A B : sd_M α} {r : α × (Nat × Nat) × sd_H} {x y : Int32} {off : Int} (tgt : Nat) (hf : (if x ≤ y then A else B) h = some r) (d : decode Y.2.1 pc = .ok (.if_icmp .le off, 3)) (ht : (pc : Int) + off = (tgt : Int)) (kt : (x ≤ y) → A h = some r → sd_J Y X tgt L st h c) (kf : ¬ (x ≤ y) → B h = some r → sd_J Y X (pc + 3) L st h c) : sd_J Y X pc L (.int y :: .int x :: st) h c := fun p e s m below meth cd ls H locs cells slots C hR hz hl b1 b2 => lv_icmp_le C.1 C.2.1 d ht (fun q => kt q (by rw [if_pos q] at hf; exact hf) p e s m below meth cd ls H locs cells slots C hR hz hl b1 b2) (fun q => kf q (by rw [if_neg q] at hf; exact hf) p e s m below meth cd ls H locs cells slots C hR hz hl b1 b2)
theorem sj_aceq {α : Type} {A B : sd_M α} {r : α × (Nat × Nat) × sd_H} {x y : Option Nat} {off : Int} (tgt : Nat) (hf : (if x = y then A else B) h = some r) (d : decode Y.2.1 pc = .ok (.if_acmp .eq off, 3)) (ht : (pc : Int) + off = (tgt : Int)) (kt : (x = y) → A h = some r → sd_J Y X tgt L st h c) (kf : ¬ (x = y) → B h = some r → sd_J Y X (pc + 3) L st h c) : sd_J Y X pc L (va_rf y :: va_rf x :: st) h c := fun p e s m below meth cd ls H locs cells slots C hR hz hl b1 b2 => lv_acmp_eq C.1 C.2.1 d ht (fun q => kt q (by rw [if_pos q] at hf; exact hf) p e s m below meth cd ls H locs cells slots C hR hz hl b1 b2) (fun q => kf q (by rw [if_neg q] at hf; exact hf) p e s m below meth cd ls H locs cells slots C hR hz hl b1 b2)
theorem sj_acne {α : Type} {A B : sd_M α} {r : α × (Nat × Nat) × sd_H} {x y : Option Nat} {off : Int} (tgt : Nat) (hf : (if x = y then B else A) h = some r) (d : decode Y.2.1 pc = .ok (.if_acmp .ne off, 3)) (ht : (pc : Int) + off = (tgt : Int)) (kt : ¬ (x = y) → A h = some r → sd_J Y X tgt L st h c) (kf : (x = y) → B h = some r → sd_J Y X (pc + 3) L st h c) : sd_J Y X pc L (va_rf y :: va_rf x :: st) h c := fun p e s m below meth cd ls H locs cells slots C hR hz hl b1 b2 => lv_acmp_ne C.1 C.2.1 d ht (fun q => kt q (by rw [if_neg q] at hf; exact hf) p e s m below meth cd ls H locs cells slots C hR hz hl b1 b2) (fun q => kf q (by rw [if_pos q] at hf; exact hf) p e s m below meth cd ls H locs cells slots C hR hz hl b1 b2)
theorem sj_aceqR {α : Type} {A B : sd_M α} {r : α × (Nat × Nat) × sd_H} {x y : Nat} {off : Int} (tgt : Nat) (hf : (if x = y then A else B) h = some r) (d : decode Y.2.1 pc = .ok (.if_acmp .eq off, 3)) (ht : (pc : Int) + off = (tgt : Int)) (kt : (x = y) → A h = some r → sd_J Y X tgt L st h c) (kf : ¬ (x = y) → B h = some r → sd_J Y X (pc + 3) L st h c) : sd_J Y X pc L (.ref y :: .ref x :: st) h c := fun p e s m below meth cd ls H locs cells slots C hR hz hl b1 b2 => lv_acmp_eq (rx := some x) (ry := some y) C.1 C.2.1 d ht (fun q => kt (Option.some.inj q) (by rw [if_pos (Option.some.inj q)] at hf; exact hf) p e s m below meth cd ls H locs cells slots C hR hz hl b1 b2) (fun q => kf (fun z => q (by rw [z])) (by rw [if_neg (fun z => q (by rw [z]))] at hf; exact hf) p e s m below meth cd ls H locs cells slots C hR hz hl b1 b2)
theorem sj_acneR {α : Type} {A B : sd_M α} {r : α × (Nat × Nat) × sd_H} {x y : Nat} {off : Int} (tgt : Nat) (hf : (if x = y then B else A) h = some r) (d : decode Y.2.1 pc = .ok (.if_acmp .ne off, 3)) (ht : (pc : Int) + off = (tgt : Int)) (kt : ¬ (x = y) → A h = some r → sd_J Y X tgt L st h c) (kf : (x = y) → B h = some r → sd_J Y X (pc + 3) L st h c) : sd_J Y X pc L (.ref y :: .ref x :: st) h c := fun p e s m below meth cd ls H locs cells slots C hR hz hl b1 b2 => lv_acmp_ne (rx := some x) (ry := some y) C.1 C.2.1 d ht (fun q => kt (fun z => q (by rw [z])) (by rw [if_neg (fun z => q (by rw [z]))] at hf; exact hf) p e s m below meth cd ls H locs cells slots C hR hz hl b1 b2) (fun q => kf (Option.some.inj q) (by rw [if_pos (Option.some.inj q)] at hf; exact hf) p e s m below meth cd ls H locs cells slots C hR hz hl b1 b2)
theorem sj_ifnull {α : Type} {A : sd_M α} {B : Nat → sd_M α} {r : α × (Nat × Nat) × sd_H} {x : Option Nat} {off : Int} (tgt : Nat) (hf : (match x with | none => A | some a => B a) h = some r) (d : decode Y.2.1 pc = .ok (.ifnull off, 3)) (ht : (pc : Int) + off = (tgt : Int)) (kt : x = none → A h = some r → sd_J Y X tgt L st h c) (kf : ∀ a, x = some a → B a h = some r → sd_J Y X (pc + 3) L st h c) : sd_J Y X pc L (va_rf x :: st) h c := by
  cases x with
  | none => exact fun p e s m below meth cd ls H locs cells slots C hR hz hl b1 b2 => lv_ifnullN C.1 C.2.1 d ht (kt rfl hf p e s m below meth cd ls H locs cells slots C hR hz hl b1 b2)
  | some a => exact fun p e s m below meth cd ls H locs cells slots C hR hz hl b1 b2 => lv_ifnull C.1 C.2.1 d (kf a rfl hf p e s m below meth cd ls H locs cells slots C hR hz hl b1 b2)
theorem sj_ifnonnull {α : Type} {A : sd_M α} {B : Nat → sd_M α} {r : α × (Nat × Nat) × sd_H} {x : Option Nat} {off : Int} (tgt : Nat) (hf : (match x with | none => A | some a => B a) h = some r) (d : decode Y.2.1 pc = .ok (.ifnonnull off, 3)) (ht : (pc : Int) + off = (tgt : Int)) (kf : x = none → A h = some r → sd_J Y X (pc + 3) L st h c) (kt : ∀ a, x = some a → B a h = some r → sd_J Y X tgt L st h c) : sd_J Y X pc L (va_rf x :: st) h c := by
  cases x with
  | none => exact fun p e s m below meth cd ls H locs cells slots C hR hz hl b1 b2 => lv_ifnonnullN C.1 C.2.1 d (kf rfl hf p e s m below meth cd ls H locs cells slots C hR hz hl b1 b2)
  | some a => exact fun p e s m below meth cd ls H locs cells slots C hR hz hl b1 b2 => lv_ifnonnull C.1 C.2.1 d ht (kt a rfl hf p e s m below meth cd ls H locs cells slots C hR hz hl b1 b2)
/-! fields -/
theorem sd_bnd_pure {α β : Type} {f : sd_M α} {k : α → sd_M β} {h h2 : sd_H} {b : β} {c : Nat × Nat} (hp : ∀ a c1 h1, f h = some (a, c1, h1) → c1 = (0, 0) ∧ h1 = h) (hf : sd_bnd f k h = some (b, c, h2)) : ∃ a, f h = some (a, (0, 0), h) ∧ k a h = some (b, c, h2) := by
  obtain ⟨a, c1, c2, h1, e1, e2, rfl⟩ := sd_bnd_some hf
  obtain ⟨rfl, rfl⟩ := hp _ _ _ e1
  refine ⟨a, e1, ?_⟩
  simpa using e2
theorem sd_let {α β : Type} {a : α} {k : α → sd_M β} {r : β × (Nat × Nat) × sd_H} (hf : sd_bnd (sd_ret a) k h = some r) : k a h = some r := by
  obtain ⟨b, c2, h2⟩ := r
  obtain ⟨a', e1, e2⟩ := sd_bnd_pure (fun _ _ _ e => by unfold sd_ret at e; cases e; exact ⟨rfl, rfl⟩) hf
  unfold sd_ret at e1
  cases e1
  exact e2
/-- what 'getfield index' in the class own reads: field k of class number ci -/
def sd_Fd (own : String) (index ci k : Nat) : Prop := ∃ (q : vw_C) (ref : String), sd_cl[ci]? = some q ∧ k < q.2.2 ∧ sd_mk ci = true ∧ (∀ w ∈ u_ws q.1 q.2.1 q.2.2, w ∈ lw_all) ∧ ((q.2.1 k).1 = ref ∨ Cond.sameField ref (q.2.1 k).1 (q.2.1 k).2.1 (q.2.1 k).2.2.1 ∈ lw_all) ∧ (Cond.fieldLink own index ref (q.2.1 k).2.1 (q.2.1 k).2.2.1 ∈ lw_all ∨ ∃ host, Cond.fieldLinkNest own index ref (q.2.1 k).2.1 (q.2.1 k).2.2.1 host ∈ lw_tbl)
theorem sj_get {index ci k a : Nat} {v : Value} (F : sd_Fd Y.1.cls index ci k) (hv : sd_fv (sd_look X.1.2 h a) ci k = some v) (d : decode Y.2.1 pc = .ok (.getfield index, 3)) (kk : sd_J Y X (pc + 3) L (v :: st) h c) : sd_J Y X pc L (.ref a :: st) h c := by
  intro p e s m below meth cd ls H locs cells slots C hR hz hl b1 b2
  have kk := kk p e s m below meth cd ls H locs cells slots C hR hz hl b1 b2
  obtain ⟨hx, hb, hr, hml, hown, hts, hlocks, hnm, htb, hK⟩ := C
  obtain ⟨q, ref, hc, hk, hmk, hin, hsm, hlk⟩ := F
  cases he : sd_look X.1.2 h a with
  | none => rw [he] at hv; cases hv
  | some e0 =>
    rw [he] at hv
    obtain ⟨-, cell, q1, g1, g2, g3, g4⟩ := hR.look he
    cases e0 with
    | inl x => cases hv
    | inr o =>
      obtain ⟨g4, r, g5, g6⟩ := g4
      simp only [sd_fv] at hv
      split at hv
      · next ho =>
        subst ho
        cases g5.symm.trans hc
        obtain ⟨hS, hfc, kC, hkC, hkind⟩ := (hK.1 o.1 _ hc).2 hmk
        obtain ⟨cf, kf, fi, f, hi, hsl⟩ := hS k hk
        have hst := (u_facts hfc hkC (u_lays hts hin hk) hi).1
        have hi2 : s.fieldFound? ref (q.2.1 k).2.1 (q.2.1 k).2.2.1 = some (cf, kf, fi, f) := by
          rcases hsm with z | z
          · rw [← z]; exact hi
          · exact u_same (hts _ z) _ hi
        have hslot : cell.slots[f.slot]? = some v := by
          rw [hsl, g6.1 k hk]
          simp [vp_V, hv]
        rcases hlk with hlk | ⟨host, hlk⟩
        · exact W.getf hx hb hown (hts _ hlk) hi2 hst q1 g1 hslot rfl rfl d kk
        · exact va_Wgetf hx hb hown (va_Nw.use rfl (hK.2.2.1 _ hlk rfl)) hi2 hst q1 g1 hslot rfl rfl d kk
      · cases hv
theorem sj_getI {α : Type} {K : Int32 → sd_M α} {ρ : α} {h2 : sd_H} {index ci k a : Nat} (F : sd_Fd Y.1.cls index ci k) (hf : sd_bnd (sd_getI X.1.2 ci k a) K h = some (ρ, c, h2)) (d : decode Y.2.1 pc = .ok (.getfield index, 3)) (kk : ∀ v, K v h = some (ρ, c, h2) → sd_J Y X (pc + 3) L (.int v :: st) h c) : sd_J Y X pc L (.ref a :: st) h c := by
  obtain ⟨v, e1, e2⟩ := sd_bnd_pure (fun _ _ _ e => by unfold sd_getI at e; split at e <;> cases e; exact ⟨rfl, rfl⟩) hf
  unfold sd_getI at e1
  split at e1
  · next w hw =>
    cases e1
    exact sj_get F hw d (kk _ e2)
  · cases e1
theorem sj_getL {α : Type} {K : Int64 → sd_M α} {ρ : α} {h2 : sd_H} {index ci k a : Nat} (F : sd_Fd Y.1.cls index ci k) (hf : sd_bnd (sd_getL X.1.2 ci k a) K h = some (ρ, c, h2)) (d : decode Y.2.1 pc = .ok (.getfield index, 3)) (kk : ∀ v, K v h = some (ρ, c, h2) → sd_J Y X (pc + 3) L (.long v :: st) h c) : sd_J Y X pc L (.ref a :: st) h c := by
  obtain ⟨v, e1, e2⟩ := sd_bnd_pure (fun _ _ _ e => by unfold sd_getL at e; split at e <;> cases e; exact ⟨rfl, rfl⟩) hf
  unfold sd_getL at e1
  split at e1
  · next w hw =>
    cases e1
    exact sj_get F hw d (kk _ e2)
  · cases e1
theorem sj_getR {α : Type} {K : Nat → sd_M α} {ρ : α} {h2 : sd_H} {index ci k a : Nat} (F : sd_Fd Y.1.cls index ci k) (hf : sd_bnd (sd_getR X.1.2 ci k a) K h = some (ρ, c, h2)) (d : decode Y.2.1 pc = .ok (.getfield index, 3)) (kk : ∀ v, K v h = some (ρ, c, h2) → sd_J Y X (pc + 3) L (.ref v :: st) h c) : sd_J Y X pc L (.ref a :: st) h c := by
  obtain ⟨v, e1, e2⟩ := sd_bnd_pure (fun _ _ _ e => by unfold sd_getR at e; split at e <;> cases e; exact ⟨rfl, rfl⟩) hf
  unfold sd_getR at e1
  split at e1
  · next w hw =>
    cases e1
    exact sj_get F hw d (kk _ e2)
  · cases e1
theorem sj_getQ {α : Type} {K : Option Nat → sd_M α} {ρ : α} {h2 : sd_H} {index ci k a : Nat} (F : sd_Fd Y.1.cls index ci k) (hf : sd_bnd (sd_getQ X.1.2 ci k a) K h = some (ρ, c, h2)) (d : decode Y.2.1 pc = .ok (.getfield index, 3)) (kk : ∀ v, K v h = some (ρ, c, h2) → sd_J Y X (pc + 3) L (va_rf v :: st) h c) : sd_J Y X pc L (.ref a :: st) h c := by
  obtain ⟨v, e1, e2⟩ := sd_bnd_pure (fun _ _ _ e => by unfold sd_getQ at e; split at e <;> cases e <;> exact ⟨rfl, rfl⟩) hf
  unfold sd_getQ at e1
  split at e1
  · next w hw =>
    cases e1
    exact sj_get F hw d (kk _ e2)
  · next hw =>
    cases e1
    exact sj_get F hw d (kk _ e2)
  · cases e1
/-- what 'putfield index' in the method y writes: field k, of type ty, of class number ci -/
def sd_Fp (y : MethodName) (index ci k : Nat) (ty : FieldType) : Prop := ∃ (q : vw_C) (ref : String) (tys : Nat → FieldType), sd_cl[ci]? = some q ∧ k < q.2.2 ∧ sd_mk ci = true ∧ (∀ w ∈ u_ws q.1 q.2.1 q.2.2, w ∈ lw_all) ∧ ((q.2.1 k).1 = ref ∨ Cond.sameField ref (q.2.1 k).1 (q.2.1 k).2.1 (q.2.1 k).2.2.1 ∈ lw_all) ∧ (∀ k, k < q.2.2 → parseFieldDescriptor (q.2.1 k).2.2.1 = some (tys k)) ∧ (∀ a, a < q.2.2 → ∀ b, b < q.2.2 → a ≠ b → (q.2.1 a).2.1 ≠ (q.2.1 b).2.1) ∧ tys k = ty ∧
  (((q.2.1 k).2.2.2 = false ∧ (Cond.fieldLink y.cls index ref (q.2.1 k).2.1 (q.2.1 k).2.2.1 ∈ lw_all ∨ ∃ host, Cond.fieldLinkNest y.cls index ref (q.2.1 k).2.1 (q.2.1 k).2.2.1 host ∈ lw_tbl)) ∨ ((q.2.1 k).2.2.2 = true ∧ y.name = "<init>" ∧ (q.2.1 k).1 = y.cls ∧ Cond.fieldLink y.cls index ref (q.2.1 k).2.1 (q.2.1 k).2.2.1 ∈ lw_all))
theorem sd_slots_set {cell : Cell} {i j : Nat} {v : Value} : (cell.setSlot i v).slots[j]? = if i = j then (if i < cell.slots.size then some v else none) else cell.slots[j]? := by
  simp only [Cell.setSlot, Array.getElem?_setIfInBounds]
theorem sj_put {α : Type} {K : Unit → sd_M α} {ρ : α} {h2 : sd_H} {index ci k a : Nat} {ty : FieldType} {v : Value} (F : sd_Fp Y.1 index ci k ty) (hf : sd_bnd (sd_put ci k ty a v) K h = some (ρ, c, h2)) (d : decode Y.2.1 pc = .ok (.putfield index, 3)) (kk : ∀ h1, K () h1 = some (ρ, c, h2) → sd_J Y X (pc + 3) L st h1 c) : sd_J Y X pc L (v :: .ref a :: st) h c := by
  obtain ⟨u, c1, c2, h1, e1, e2, rfl⟩ := sd_bnd_some hf
  unfold sd_put at e1
  split at e1
  · next o ho =>
    split at e1
    · next hc0 =>
      obtain ⟨hci, hlen, hnar, hfit⟩ := hc0
      cases e1
      simp only [Nat.zero_add] at kk ⊢
      have kk := kk _ e2
      intro p e s m below meth cd ls H locs cells slots C hR hz hl b1 b2
      have kk := fun H1 l1 R1 z1 => kk p e s m below meth cd ls H1 l1 cells slots C R1 z1 hl b1 b2
      obtain ⟨hx, hb, hr, hml, hown, hts, hlocks, hnm, htb, hK⟩ := C
      obtain ⟨q, ref, tys, hc, hk, hmk, hin, hsm, hty, hap, htyk, hlk⟩ := F
      obtain ⟨hza, -, cell, q1, g1, g2, g3, g4, r, g5, g6, g7⟩ := hR.2.2.2.2.1 a _ ho
      have g3 := g3 hza
      subst hci
      cases g5.symm.trans hc
      obtain ⟨hS, hfc, kC, hkC, hkind⟩ := (hK.1 o.1 _ hc).2 hmk
      obtain ⟨cf, kf, fi, f, hi, hsl⟩ := hS k hk
      have hst := (u_facts hfc hkC (u_lays hts hin hk) hi).1
      have hi2 : s.fieldFound? ref (q.2.1 k).2.1 (q.2.1 k).2.2.1 = some (cf, kf, fi, f) := by
        rcases hsm with z | z
        · rw [← z]; exact hi
        · exact u_same (hts _ z) _ hi
      have hd : parseFieldDescriptor (q.2.1 k).2.2.1 = some ty := by rw [hty k hk, htyk]
      have hapart : ∀ x, x < q.2.2 → x ≠ k → (sd_D X.1.2).2 o.1 k ≠ (sd_D X.1.2).2 o.1 x := by
        intro x hx hne
        obtain ⟨_, _, _, fb, hib, eb⟩ := hS x hx
        rw [← hsl, ← eb]
        refine u_apart (u_lays hts hin hk) (u_lays hts hin hx) hi hib ?_
        rw [(State.fieldFound?_type hi (hty k hk)).1, (State.fieldFound?_type hib (hty x hx)).1]
        exact hap k hk x hx (Ne.symm hne)
      have hlt : f.slot < cell.slots.size := by rw [hsl]; exact k2_hasslot (g6 k hk)
      have hat : sd_at X.1.2 a (.inr (o.1, o.2.set k v)) (cell.setSlot f.slot v) := by
        refine ⟨g1, g2, fun _ => g3, g4, q, hc, fun x hxx => ?_, g7⟩
        rw [sd_slots_set, hsl]
        by_cases hxk : x = k
        · subst hxk
          rw [if_pos rfl, if_pos (by rw [← hsl]; exact hlt)]
          simp [vp_V, hlen]
        · rw [if_neg (hapart x hxx hxk), g6 x hxx]
          simp [vp_V, List.getElem?_set_ne (Ne.symm hxk)]
      have fin : ∀ H' : Heap, H'[a]? = some (cell.setSlot f.slot v) → H'.size = H.size → (∀ q, q ≠ a → H'[q]? = H[q]?) → W p X.1.1 e (sd_rm X) s m X.2.2.1.toArray below meth cd H' (locs ++ [⟨a, f.slot⟩]) cells slots (vy_MQ below (sd_Qc X) (sd_XC X) X.2.2.1.toArray s X.2.2.2.2.1 X.2.2.2.2.2 (sd_fr X)) (F0 m (pc + 3) ls st) := by
        intro H' w1 w2 w3
        refine kk H' _ (hR.put ho w1 w2 w3 hat) (fun z hz' => ?_)
        rcases List.mem_append.mp hz' with z1 | z1
        · exact hz z z1
        · rw [List.mem_singleton.mp z1]
          exact hza
      rcases hlk with ⟨hfin, hlk⟩ | ⟨hfin, hin0, hdecl, hlk⟩
      · have hlay := hts _ (hin _ (u_in_lay hk))
        unfold u_lay at hlay
        rw [if_neg (by rw [hfin]; decide)] at hlay
        have h6 := u_store hfc hkC hkind hlay hi hd hnar hfit
        rcases hlk with hlk | ⟨host, hlk⟩
        · exact W.putK hx hb (f := f) ⟨hown, hts _ hlk, ⟨_, _, _, hi2⟩, hst⟩ (by rw [g4]; exact h6) q1 g3 hlt rfl rfl d fin
        · exact va_WputK hx hb (f := f) hown (va_Nw.use rfl (hK.2.2.1 _ hlk rfl)) hi2 hst (by rw [g4]; exact h6) q1 g3 hlt rfl rfl d fin
      · have hlay := hts _ (hin _ (u_in_lay hk))
        unfold u_lay at hlay
        rw [if_pos hfin] at hlay
        have hcf : m.cls = cf := by
          obtain ⟨_, _, c', _, _, _, -, -, hf', -, -, -, hown2, -⟩ := Cond.laysFinal_spec hlay
          have e1 : c' = cf := by have := hi.symm.trans hf'; simp at this; exact this.1.symm
          rw [hdecl] at hown2
          rw [← e1]; exact Option.some.inj (hown.symm.trans hown2)
        have h6 := u_fits hfc hkC hkind (Or.inr hlay) hi hd hnar hfit
        exact W.putFinK hx hb hown (hts _ hlk) hi2 hst hcf (hnm.trans hin0) (by rw [g4]; exact h6) q1 g3 hlt rfl rfl d fin
    · cases e1
  · cases e1
/-- 'new index' in the class own makes an object of class number ci, of n slots, with the fields fs -/
def sd_Fn (own : String) (index ci n : Nat) (fs : List Value) : Prop := ∃ (q : vw_C) (tys : Nat → FieldType), sd_cl[ci]? = some q ∧ sd_mk ci = true ∧ (∀ w ∈ u_ws q.1 q.2.1 q.2.2, w ∈ lw_all) ∧ Cond.classLink own index q.1 ∈ lw_all ∧ Cond.instantiable q.1 n ∈ lw_all ∧ Cond.initialized q.1 ∈ lw_all ∧ (∀ k, k < q.2.2 → parseFieldDescriptor (q.2.1 k).2.2.1 = some (tys k)) ∧ ∀ j, j < q.2.2 → defaultValue (tys j) = vp_V fs j
theorem sj_new {α : Type} {K : Nat → sd_M α} {ρ : α} {h2 : sd_H} {index ci n : Nat} {fs : List Value} (F : sd_Fn Y.1.cls index ci n fs) (hf : sd_bnd (sd_new ci n fs) K h = some (ρ, c, h2)) (d : decode Y.2.1 pc = .ok (.new index, 3)) (kk : ∀ (q : Nat) (h1 : sd_H) (c1 : Nat × Nat), K q h1 = some (ρ, c1, h2) → sd_J Y X (pc + 3) L (.ref q :: st) h1 c1) : sd_J Y X pc L st h c := by
  obtain ⟨u, c1, c2, h1, e1, e2, rfl⟩ := sd_bnd_some hf
  unfold sd_new at e1
  cases e1
  have kk := kk _ _ _ e2
  intro p e s m below meth cd ls H locs cells slots C hR hz hl b1 b2
  simp only at b1 b2
  have kk := fun H1 R1 => kk p e s m below meth cd ls H1 locs (cells + 1) (slots + n) C R1 hz hl (by omega) (by omega)
  obtain ⟨hx, hb, hr, hml, hown, hts, hlocks, hnm, htb, hK⟩ := C
  obtain ⟨q, tys, hc, hmk, hin, w1, w2, w3, hty, hdf⟩ := F
  have hKn := (hK.1 ci _ hc).2 hmk
  refine W.newcK hx hb hown (hts _ w1) (hts _ w2) (hts _ w3) rfl d (by show cells + 1 ≤ X.2.2.2.2.1; omega) (by show slots + n ≤ X.2.2.2.2.2; omega) hKn.2.1 rfl fun H1 kC hkC g1 g2 g3 => ?_
  obtain ⟨cell, v1, v2, v3, v4⟩ := (u_born tys hts hin hKn hkC g1 hty).to hdf
  rw [hR.1]
  exact kk H1 (hR.push v1 g2 g3 ⟨(by rw [v3]; exact fun z => by cases z), (by rw [v3]; rfl), fun _ => v3, v2, q, hc, v4, fun _ => (by have z9 : cell = _ := Option.some.inj (v1.symm.trans g1); rw [z9]; exact ⟨rfl, rfl⟩)⟩)
/-! arrays -/
theorem sd_isArr {G : sd_G} {s : State} {t : Nat} {ty : FieldType} {cell : Cell} (hK : sd_K G s) (ht : sd_ty[t]? = some ty) (hcls : cell.cls = sd_A G t ∨ (t = 0 ∧ cell.cls = sd_A G 10)) (hns : cell.vm.isStatics = false) : s.isArrayOf cell ty := by
  rcases hcls with hcls | ⟨rfl, hcls⟩
  · have h2 := ((hK.2.1 t ty ht).1 0 (fun _ => .null)).2
    exact ⟨fun k e => (by rw [e] at hns; cases hns), (by rw [hcls]; exact h2)⟩
  · cases ht
    have h2 := ((hK.2.1 10 .int rfl).1 0 (fun _ => .null)).2
    exact ⟨fun k e => (by rw [e] at hns; cases hns), (by rw [hcls]; exact h2)⟩
theorem sd_ix_in {i : Int32} {n : Nat} (h : sd_ix i n = true) : ¬ (i < 0 ∨ n ≤ i.toNatClampNeg) := of_decide_eq_true h
theorem sd_ix_lt {i : Int32} {n : Nat} (h : sd_ix i n = true) : i.toNatClampNeg < n := Nat.not_le.mp fun q => sd_ix_in h (Or.inr q)
theorem sd_aldI_some {G : sd_G} {t a : Nat} {i : Int32} {v : Int32} {c1 : Nat × Nat} {h h1 : sd_H} (e : sd_aldI G t a i h = some (v, c1, h1)) : c1 = (0, 0) ∧ h1 = h ∧ ∃ n f, sd_look G h a = some (.inl (t, n, .inl f)) ∧ sd_ix i n = true ∧ v = f i.toNatClampNeg := by
  unfold sd_aldI at e
  split at e
  · next t' n f he =>
    split at e
    · next hc => cases e; exact ⟨rfl, rfl, n, f, by rw [he, hc.1], hc.2, rfl⟩
    · cases e
  · cases e
theorem sd_aldL_some {G : sd_G} {a : Nat} {i : Int32} {v : Int64} {c1 : Nat × Nat} {h h1 : sd_H} (e : sd_aldL G a i h = some (v, c1, h1)) : c1 = (0, 0) ∧ h1 = h ∧ ∃ n f, sd_look G h a = some (.inl (1, n, .inr (.inl f))) ∧ sd_ix i n = true ∧ v = f i.toNatClampNeg := by
  unfold sd_aldL at e
  split at e
  · next t' n f he =>
    split at e
    · next hc => cases e; exact ⟨rfl, rfl, n, f, by rw [he, hc.1], hc.2, rfl⟩
    · cases e
  · cases e
theorem sd_aldQ_some {G : sd_G} {t a : Nat} {i : Int32} {v : Option Nat} {c1 : Nat × Nat} {h h1 : sd_H} (e : sd_aldQ G t a i h = some (v, c1, h1)) : c1 = (0, 0) ∧ h1 = h ∧ ∃ n f, sd_look G h a = some (.inl (t, n, .inr (.inr (.inr (.inr f))))) ∧ sd_ix i n = true ∧ v = f i.toNatClampNeg := by
  unfold sd_aldQ at e
  split at e
  · next t' n f he =>
    split at e
    · next hc => cases e; exact ⟨rfl, rfl, n, f, by rw [he, hc.1], hc.2, rfl⟩
    · cases e
  · cases e
theorem sd_aldR_some {G : sd_G} {t a : Nat} {i : Int32} {v : Nat} {c1 : Nat × Nat} {h h1 : sd_H} (e : sd_aldR G t a i h = some (v, c1, h1)) : c1 = (0, 0) ∧ h1 = h ∧ ∃ n f, sd_look G h a = some (.inl (t, n, .inr (.inr (.inr (.inr f))))) ∧ sd_ix i n = true ∧ some v = f i.toNatClampNeg := by
  unfold sd_aldR at e
  split at e
  · next t' n f he =>
    split at e
    · next hc =>
      split at e
      · next w hw => cases e; exact ⟨rfl, rfl, n, f, by rw [he, hc.1], hc.2, hw.symm⟩
      · cases e
    · cases e
  · cases e
/-- a cell of an array, as the machine sees it -/
theorem sd_arr {G : sd_G} {s : State} {h : sd_H} {H : Heap} {a t : Nat} {x : vp_A} {ty : FieldType} (hK : sd_K G s) (hR : sd_R G h H) (he : sd_look G h a = some (.inl (t, x))) (ht : sd_ty[t]? = some ty) : ∃ cell, H[a]? = some cell ∧ cell.vm ≠ .unknown ∧ s.isArrayOf cell ty ∧ cell.slots.size = x.1 ∧ ∀ j, j < x.1 → cell.slots[j]? = some (sd_sv x j) := by
  obtain ⟨-, cell, q1, g1, g2, g3, g4, g5, g6, g7⟩ := hR.look he
  exact ⟨cell, q1, g1, sd_isArr hK ht g4 g2, g6, g7⟩
theorem sj_iald {α : Type} {K : Int32 → sd_M α} {ρ : α} {h2 : sd_H} {a : Nat} {i : Int32} (hf : sd_bnd (sd_aldI X.1.2 0 a i) K h = some (ρ, c, h2)) (d : decode Y.2.1 pc = .ok (.iaload, 1)) (kk : ∀ v, K v h = some (ρ, c, h2) → sd_J Y X (pc + 1) L (.int v :: st) h c) : sd_J Y X pc L (.int i :: .ref a :: st) h c := by
  obtain ⟨v, e1, e2⟩ := sd_bnd_pure (fun _ _ _ e => ⟨(sd_aldI_some e).1, (sd_aldI_some e).2.1⟩) hf
  obtain ⟨-, -, n, f, he, hi, rfl⟩ := sd_aldI_some e1
  intro p e s m below meth cd ls H locs cells slots C hR hz hl b1 b2
  have kk := kk _ e2 p e s m below meth cd ls H locs cells slots C hR hz hl b1 b2
  obtain ⟨cell, q1, q2, q3, q4, q5⟩ := sd_arr C.2.2.2.2.2.2.2.2.2 hR he (show sd_ty[0]? = some .int from rfl)
  exact W.iald C.1 C.2.1 q1 q3 q2 (by rw [q4]; exact sd_ix_in hi) (q5 _ (sd_ix_lt hi)) rfl rfl d kk
theorem sj_bald {α : Type} {K : Int32 → sd_M α} {ρ : α} {h2 : sd_H} {a : Nat} {i : Int32} (hf : sd_bnd (sd_aldI X.1.2 2 a i) K h = some (ρ, c, h2)) (d : decode Y.2.1 pc = .ok (.baload, 1)) (kk : ∀ v, K v h = some (ρ, c, h2) → sd_J Y X (pc + 1) L (.int v :: st) h c) : sd_J Y X pc L (.int i :: .ref a :: st) h c := by
  obtain ⟨v, e1, e2⟩ := sd_bnd_pure (fun _ _ _ e => ⟨(sd_aldI_some e).1, (sd_aldI_some e).2.1⟩) hf
  obtain ⟨-, -, n, f, he, hi, rfl⟩ := sd_aldI_some e1
  intro p e s m below meth cd ls H locs cells slots C hR hz hl b1 b2
  have kk := kk _ e2 p e s m below meth cd ls H locs cells slots C hR hz hl b1 b2
  obtain ⟨cell, q1, q2, q3, q4, q5⟩ := sd_arr C.2.2.2.2.2.2.2.2.2 hR he (show sd_ty[2]? = some .byte from rfl)
  exact W.bald C.1 C.2.1 q1 q3 q2 (by rw [q4]; exact sd_ix_in hi) (q5 _ (sd_ix_lt hi)) rfl rfl d kk
theorem sj_zald {α : Type} {K : Int32 → sd_M α} {ρ : α} {h2 : sd_H} {a : Nat} {i : Int32} (hf : sd_bnd (sd_aldI X.1.2 3 a i) K h = some (ρ, c, h2)) (d : decode Y.2.1 pc = .ok (.baload, 1)) (kk : ∀ v, K v h = some (ρ, c, h2) → sd_J Y X (pc + 1) L (.int v :: st) h c) : sd_J Y X pc L (.int i :: .ref a :: st) h c := by
  obtain ⟨v, e1, e2⟩ := sd_bnd_pure (fun _ _ _ e => ⟨(sd_aldI_some e).1, (sd_aldI_some e).2.1⟩) hf
  obtain ⟨-, -, n, f, he, hi, rfl⟩ := sd_aldI_some e1
  intro p e s m below meth cd ls H locs cells slots C hR hz hl b1 b2
  have kk := kk _ e2 p e s m below meth cd ls H locs cells slots C hR hz hl b1 b2
  obtain ⟨cell, q1, q2, q3, q4, q5⟩ := sd_arr C.2.2.2.2.2.2.2.2.2 hR he (show sd_ty[3]? = some .boolean from rfl)
  exact W.zald C.1 C.2.1 q1 q3 q2 (by rw [q4]; exact sd_ix_in hi) (q5 _ (sd_ix_lt hi)) rfl rfl d kk
theorem sj_lald {α : Type} {K : Int64 → sd_M α} {ρ : α} {h2 : sd_H} {a : Nat} {i : Int32} (hf : sd_bnd (sd_aldL X.1.2 a i) K h = some (ρ, c, h2)) (d : decode Y.2.1 pc = .ok (.laload, 1)) (kk : ∀ v, K v h = some (ρ, c, h2) → sd_J Y X (pc + 1) L (.long v :: st) h c) : sd_J Y X pc L (.int i :: .ref a :: st) h c := by
  obtain ⟨v, e1, e2⟩ := sd_bnd_pure (fun _ _ _ e => ⟨(sd_aldL_some e).1, (sd_aldL_some e).2.1⟩) hf
  obtain ⟨-, -, n, f, he, hi, rfl⟩ := sd_aldL_some e1
  intro p e s m below meth cd ls H locs cells slots C hR hz hl b1 b2
  have kk := kk _ e2 p e s m below meth cd ls H locs cells slots C hR hz hl b1 b2
  obtain ⟨cell, q1, q2, q3, q4, q5⟩ := sd_arr C.2.2.2.2.2.2.2.2.2 hR he (show sd_ty[1]? = some .long from rfl)
  exact W.lald C.1 C.2.1 q1 q3 q2 (by rw [q4]; exact sd_ix_in hi) (q5 _ (sd_ix_lt hi)) rfl rfl d kk
theorem sj_aaldQ {α : Type} {K : Option Nat → sd_M α} {ρ : α} {h2 : sd_H} {a t : Nat} {ty : FieldType} {i : Int32} (ht : sd_ty[t]? = some ty) (hrf : ty.isReference = true) (hf : sd_bnd (sd_aldQ X.1.2 t a i) K h = some (ρ, c, h2)) (d : decode Y.2.1 pc = .ok (.aaload, 1)) (kk : ∀ v, K v h = some (ρ, c, h2) → sd_J Y X (pc + 1) L (va_rf v :: st) h c) : sd_J Y X pc L (.int i :: .ref a :: st) h c := by
  obtain ⟨v, e1, e2⟩ := sd_bnd_pure (fun _ _ _ e => ⟨(sd_aldQ_some e).1, (sd_aldQ_some e).2.1⟩) hf
  obtain ⟨-, -, n, f, he, hi, rfl⟩ := sd_aldQ_some e1
  intro p e s m below meth cd ls H locs cells slots C hR hz hl b1 b2
  have kk := kk _ e2 p e s m below meth cd ls H locs cells slots C hR hz hl b1 b2
  obtain ⟨cell, q1, q2, q3, q4, q5⟩ := sd_arr C.2.2.2.2.2.2.2.2.2 hR he ht
  exact W.aald C.1 C.2.1 q1 q3 hrf q2 (by rw [q4]; exact sd_ix_in hi) (q5 _ (sd_ix_lt hi)) rfl rfl d kk
theorem sj_aald {α : Type} {K : Nat → sd_M α} {ρ : α} {h2 : sd_H} {a t : Nat} {ty : FieldType} {i : Int32} (ht : sd_ty[t]? = some ty) (hrf : ty.isReference = true) (hf : sd_bnd (sd_aldR X.1.2 t a i) K h = some (ρ, c, h2)) (d : decode Y.2.1 pc = .ok (.aaload, 1)) (kk : ∀ v, K v h = some (ρ, c, h2) → sd_J Y X (pc + 1) L (.ref v :: st) h c) : sd_J Y X pc L (.int i :: .ref a :: st) h c := by
  obtain ⟨v, e1, e2⟩ := sd_bnd_pure (fun _ _ _ e => ⟨(sd_aldR_some e).1, (sd_aldR_some e).2.1⟩) hf
  obtain ⟨-, -, n, f, he, hi, hv⟩ := sd_aldR_some e1
  intro p e s m below meth cd ls H locs cells slots C hR hz hl b1 b2
  have kk := kk _ e2 p e s m below meth cd ls H locs cells slots C hR hz hl b1 b2
  obtain ⟨cell, q1, q2, q3, q4, q5⟩ := sd_arr C.2.2.2.2.2.2.2.2.2 hR he ht
  exact W.aald C.1 C.2.1 q1 q3 hrf q2 (by rw [q4]; exact sd_ix_in hi) (by rw [q5 _ (sd_ix_lt hi)]; show some (va_rf (f _)) = _; rw [← hv]; rfl) rfl rfl d kk
theorem sj_alen {α : Type} {K : Int32 → sd_M α} {ρ : α} {h2 : sd_H} {a : Nat} (hf : sd_bnd (sd_alen X.1.2 a) K h = some (ρ, c, h2)) (d : decode Y.2.1 pc = .ok (.arraylength, 1)) (kk : ∀ v, K v h = some (ρ, c, h2) → sd_J Y X (pc + 1) L (.int v :: st) h c) : sd_J Y X pc L (.ref a :: st) h c := by
  obtain ⟨v, e1, e2⟩ := sd_bnd_pure (fun _ _ _ e => by unfold sd_alen at e; split at e <;> cases e; exact ⟨rfl, rfl⟩) hf
  unfold sd_alen at e1
  split at e1
  · next x he =>
    cases e1
    intro p e s m below meth cd ls H locs cells slots C hR hz hl b1 b2
    have kk := kk _ e2 p e s m below meth cd ls H locs cells slots C hR hz hl b1 b2
    obtain ⟨-, cell, q1, g1, g2, g3, g4, g5, g6, g7⟩ := hR.look he
    obtain ⟨ty, hty⟩ : ∃ ty, sd_ty[x.1]? = some ty := ⟨_, List.getElem?_eq_getElem g5⟩
    exact W.alen C.1 C.2.1 q1 (sd_isArr C.2.2.2.2.2.2.2.2.2 hty g4 g2) (by rw [g6]) rfl rfl d kk
  · cases e1
/-! stores into arrays -/
theorem sd_arrW {G : sd_G} {s : State} {h : sd_H} {H : Heap} {a t : Nat} {x : vp_A} {ty : FieldType} (hK : sd_K G s) (hR : sd_R G h H) (he : h.2 a = some (.inl (t, x))) (ht : sd_ty[t]? = some ty) : sd_z G ≤ a ∧ ∃ cell, H[a]? = some cell ∧ cell.vm ≠ .unknown ∧ s.isArrayOf cell ty ∧ cell.slots.size = x.1 ∧ sd_at G a (.inl (t, x)) cell := by
  obtain ⟨z1, -, cell, q1, hat⟩ := hR.2.2.2.2.1 a _ he
  have hat' := hat
  obtain ⟨g1, g2, g3, g4, g5, g6, g7⟩ := hat
  exact ⟨z1, cell, q1, g1, sd_isArr hK ht g4 g2, g6, hat'⟩
theorem sd_at_set {G : sd_G} {a t : Nat} {x x' : vp_A} {cell : Cell} {j : Nat} {v : Value} (hat : sd_at G a (.inl (t, x)) cell) (hj : j < x.1) (hn : x'.1 = x.1) (hv : sd_sv x' j = v) (ho : ∀ i, i ≠ j → sd_sv x' i = sd_sv x i) : sd_at G a (.inl (t, x')) (cell.setSlot j v) := by
  obtain ⟨g1, g2, g3, g4, g5, g6, g7⟩ := hat
  refine ⟨g1, g2, g3, g4, g5, ?_, fun i hi => ?_⟩
  · rw [hn, k2_slotsz]; exact g6
  · rw [sd_slots_set]
    by_cases hij : j = i
    · subst hij
      rw [if_pos rfl, if_pos (by rw [g6]; exact hj), hv]
    · rw [if_neg hij, g7 i (by rw [hn] at hi; exact hi), ho i (Ne.symm hij)]
theorem sd_locs {X : sd_X} {locs : List Loc} {a k : Nat} (hz : ∀ z ∈ locs, sd_z X.1.2 ≤ z.base) (ha : sd_z X.1.2 ≤ a) : ∀ z ∈ locs ++ [(⟨a, k⟩ : Loc)], sd_z X.1.2 ≤ z.base := by
  intro z hz'
  rcases List.mem_append.mp hz' with z1 | z1
  · exact hz z z1
  · rw [List.mem_singleton.mp z1]
    exact ha
theorem sd_astI_some {t a : Nat} {i x : Int32} {u : Unit} {c1 : Nat × Nat} {h h1 : sd_H} (e : sd_astI t a i x h = some (u, c1, h1)) : c1 = (0, 0) ∧ ∃ n f, h.2 a = some (.inl (t, n, .inl f)) ∧ sd_ix i n = true ∧ h1 = sd_up h a (.inl (t, n, .inl (upd f i.toNatClampNeg (sd_nar t x)))) := by
  unfold sd_astI at e
  split at e
  · next t' n f he =>
    split at e
    · next hc => cases e; exact ⟨rfl, n, f, by rw [he, hc.1], hc.2, rfl⟩
    · cases e
  · cases e
theorem sd_astL_some {a : Nat} {i : Int32} {x : Int64} {u : Unit} {c1 : Nat × Nat} {h h1 : sd_H} (e : sd_astL a i x h = some (u, c1, h1)) : c1 = (0, 0) ∧ ∃ n f, h.2 a = some (.inl (1, n, .inr (.inl f))) ∧ sd_ix i n = true ∧ h1 = sd_up h a (.inl (1, n, .inr (.inl (vp_updL f i.toNatClampNeg x)))) := by
  unfold sd_astL at e
  split at e
  · next t' n f he =>
    split at e
    · next hc => cases e; exact ⟨rfl, n, f, by rw [he, hc.1], hc.2, rfl⟩
    · cases e
  · cases e
theorem sj_iast {α : Type} {K : Unit → sd_M α} {ρ : α} {h2 : sd_H} {a : Nat} {i x : Int32} (hf : sd_bnd (sd_astI 0 a i x) K h = some (ρ, c, h2)) (d : decode Y.2.1 pc = .ok (.iastore, 1)) (kk : ∀ h1, K () h1 = some (ρ, c, h2) → sd_J Y X (pc + 1) L st h1 c) : sd_J Y X pc L (.int x :: .int i :: .ref a :: st) h c := by
  obtain ⟨u, c1, c2, h1, e1, e2, rfl⟩ := sd_bnd_some hf
  obtain ⟨rfl, n, f, he, hi, rfl⟩ := sd_astI_some e1
  simp only [Nat.zero_add] at kk ⊢
  intro p e s m below meth cd ls H locs cells slots C hR hz hl b1 b2
  obtain ⟨z1, cell, q1, q2, q3, q4, q5⟩ := sd_arrW C.2.2.2.2.2.2.2.2.2 hR he (show sd_ty[0]? = some .int from rfl)
  refine W.iast C.1 C.2.1 q1 q3 q2 (by rw [q4]; exact sd_ix_in hi) rfl rfl d fun H1 w1 w2 w3 => ?_
  exact kk _ e2 p e s m below meth cd ls H1 _ cells slots C (hR.put he w1 w2 w3 (sd_at_set q5 (sd_ix_lt hi) rfl (by simp [sd_sv, upd, sd_nar]) (fun j hj => by simp [sd_sv, upd, hj]))) (sd_locs hz z1) hl b1 b2
theorem sj_bast {α : Type} {K : Unit → sd_M α} {ρ : α} {h2 : sd_H} {a : Nat} {i x : Int32} (hf : sd_bnd (sd_astI 2 a i x) K h = some (ρ, c, h2)) (d : decode Y.2.1 pc = .ok (.bastore, 1)) (kk : ∀ h1, K () h1 = some (ρ, c, h2) → sd_J Y X (pc + 1) L st h1 c) : sd_J Y X pc L (.int x :: .int i :: .ref a :: st) h c := by
  obtain ⟨u, c1, c2, h1, e1, e2, rfl⟩ := sd_bnd_some hf
  obtain ⟨rfl, n, f, he, hi, rfl⟩ := sd_astI_some e1
  simp only [Nat.zero_add] at kk ⊢
  intro p e s m below meth cd ls H locs cells slots C hR hz hl b1 b2
  obtain ⟨z1, cell, q1, q2, q3, q4, q5⟩ := sd_arrW C.2.2.2.2.2.2.2.2.2 hR he (show sd_ty[2]? = some .byte from rfl)
  refine W.bast C.1 C.2.1 q1 q3 q2 (by rw [q4]; exact sd_ix_in hi) rfl rfl d fun H1 w1 w2 w3 => ?_
  exact kk _ e2 p e s m below meth cd ls H1 _ cells slots C (hR.put he w1 w2 w3 (sd_at_set q5 (sd_ix_lt hi) rfl (by simp [sd_sv, upd, sd_nar, vp_nar]; try rfl) (fun j hj => by simp [sd_sv, upd, hj]))) (sd_locs hz z1) hl b1 b2
theorem sj_zast {α : Type} {K : Unit → sd_M α} {ρ : α} {h2 : sd_H} {a : Nat} {i x : Int32} (hf : sd_bnd (sd_astI 3 a i x) K h = some (ρ, c, h2)) (d : decode Y.2.1 pc = .ok (.bastore, 1)) (kk : ∀ h1, K () h1 = some (ρ, c, h2) → sd_J Y X (pc + 1) L st h1 c) : sd_J Y X pc L (.int x :: .int i :: .ref a :: st) h c := by
  obtain ⟨u, c1, c2, h1, e1, e2, rfl⟩ := sd_bnd_some hf
  obtain ⟨rfl, n, f, he, hi, rfl⟩ := sd_astI_some e1
  simp only [Nat.zero_add] at kk ⊢
  intro p e s m below meth cd ls H locs cells slots C hR hz hl b1 b2
  obtain ⟨z1, cell, q1, q2, q3, q4, q5⟩ := sd_arrW C.2.2.2.2.2.2.2.2.2 hR he (show sd_ty[3]? = some .boolean from rfl)
  refine W.zast C.1 C.2.1 q1 q3 q2 (by rw [q4]; exact sd_ix_in hi) rfl rfl d fun H1 w1 w2 w3 => ?_
  exact kk _ e2 p e s m below meth cd ls H1 _ cells slots C (hR.put he w1 w2 w3 (sd_at_set q5 (sd_ix_lt hi) rfl (by simp [sd_sv, upd, sd_nar, vp_nar]; try rfl) (fun j hj => by simp [sd_sv, upd, hj]))) (sd_locs hz z1) hl b1 b2
theorem sj_last {α : Type} {K : Unit → sd_M α} {ρ : α} {h2 : sd_H} {a : Nat} {i : Int32} {x : Int64} (hf : sd_bnd (sd_astL a i x) K h = some (ρ, c, h2)) (d : decode Y.2.1 pc = .ok (.lastore, 1)) (kk : ∀ h1, K () h1 = some (ρ, c, h2) → sd_J Y X (pc + 1) L st h1 c) : sd_J Y X pc L (.long x :: .int i :: .ref a :: st) h c := by
  obtain ⟨u, c1, c2, h1, e1, e2, rfl⟩ := sd_bnd_some hf
  obtain ⟨rfl, n, f, he, hi, rfl⟩ := sd_astL_some e1
  simp only [Nat.zero_add] at kk ⊢
  intro p e s m below meth cd ls H locs cells slots C hR hz hl b1 b2
  obtain ⟨z1, cell, q1, q2, q3, q4, q5⟩ := sd_arrW C.2.2.2.2.2.2.2.2.2 hR he (show sd_ty[1]? = some .long from rfl)
  refine W.last C.1 C.2.1 q1 q3 q2 (by rw [q4]; exact sd_ix_in hi) rfl rfl d fun H1 w1 w2 w3 => ?_
  exact kk _ e2 p e s m below meth cd ls H1 _ cells slots C (hR.put he w1 w2 w3 (sd_at_set q5 (sd_ix_lt hi) rfl (by simp [sd_sv, vp_updL]) (fun j hj => by simp [sd_sv, vp_updL, hj]))) (sd_locs hz z1) hl b1 b2
/-! new arrays -/
theorem sd_newarr {G : sd_G} {s : State} {h : sd_H} {H H1 : Heap} {t : Nat} {ty : FieldType} {x : vp_A} {cA : ClassId} (hK : sd_K G s) (ht : sd_ty[t]? = some ty) (hR : sd_R G h H) (hcA : cA = sd_A G t) (hx : ∀ j, j < x.1 → sd_sv x j = defaultValue ty) (e1 : H1[H.size]? = some (arrV cA x.1 (fun _ => defaultValue ty))) (e2 : H1.size = H.size + 1) (e3 : ∀ q : Nat, q < H.size → H1[q]? = H[q]?) : sd_R G (sd_pu h (.inl (t, x))) H1 := by
  refine hR.push e1 e2 e3 ⟨fun z => (by cases z), rfl, fun _ => rfl, Or.inl hcA, (List.getElem?_eq_some_iff.mp ht).1, arrV_size _ _ _, fun j hj => ?_⟩
  show (arrV cA x.1 (fun _ => defaultValue ty)).slots[j]? = _
  rw [arrV_read _ _ hj, hx j hj]
theorem sj_newI {α : Type} {K : Nat → sd_M α} {ρ : α} {h2 : sd_H} {t : Nat} {n : Int32} {atype : ArrayType} (hq : Cond.arrayClass (newarray.typeOf atype) ∈ lw_all) (ht : sd_ty[t]? = some (newarray.typeOf atype)) (hd : defaultValue (newarray.typeOf atype) = .int 0) (hcb : componentBytes (newarray.typeOf atype) ≤ 8) (hprim : ∀ G s, sd_K G s → s.vm.findClass ("[" ++ (newarray.typeOf atype).toString) = some (sd_A G t)) (hf : sd_bnd (sd_newI t n) K h = some (ρ, c, h2)) (d : decode Y.2.1 pc = .ok (.newarray atype, 2)) (kk : ∀ (q : Nat) (h1 : sd_H) (c1 : Nat × Nat), K q h1 = some (ρ, c1, h2) → sd_J Y X (pc + 2) L (.ref q :: st) h1 c1) : sd_J Y X pc L (.int n :: st) h c := by
  obtain ⟨u, c1, c2, h1, e1, e2, rfl⟩ := sd_bnd_some hf
  unfold sd_newI at e1
  split at e1
  · next hn =>
    cases e1
    have kk := kk _ _ _ e2
    intro p e s m below meth cd ls H locs cells slots C hR hz hl b1 b2
    simp only at b1 b2
    have kk := fun H1 R1 => kk p e s m below meth cd ls H1 locs (cells + 1) (slots + n.toNatClampNeg) C R1 hz hl (by omega) (by omega)
    obtain ⟨hx, hb, hr, hml, hown, hts, hlocks, hnm, htb, hK⟩ := C
    refine va_newaK hx hb (hts _ hq) rfl d rfl hn.1 rfl ?_ (by show cells + 1 ≤ X.2.2.2.2.1; omega) (by show slots + _ ≤ X.2.2.2.2.2; omega) rfl fun H1 cA g1 g2 g3 hAr hNm => ?_
    · exact Nat.le_trans (Nat.mul_le_mul hn.2 hcb) (by decide)
    · rw [hR.1]
      exact kk H1 (sd_newarr hK ht hR (Option.some.inj (hNm.symm.trans (hprim _ _ hK))) (fun j _ => by rw [hd]; rfl) g1 g2 g3)
  · cases e1
theorem sj_newL {α : Type} {K : Nat → sd_M α} {ρ : α} {h2 : sd_H} {n : Int32} (hq : Cond.arrayClass .long ∈ lw_all) (hf : sd_bnd (sd_newL n) K h = some (ρ, c, h2)) (d : decode Y.2.1 pc = .ok (.newarray .long, 2)) (kk : ∀ (q : Nat) (h1 : sd_H) (c1 : Nat × Nat), K q h1 = some (ρ, c1, h2) → sd_J Y X (pc + 2) L (.ref q :: st) h1 c1) : sd_J Y X pc L (.int n :: st) h c := by
  obtain ⟨u, c1, c2, h1, e1, e2, rfl⟩ := sd_bnd_some hf
  unfold sd_newL at e1
  split at e1
  · next hn =>
    cases e1
    have kk := kk _ _ _ e2
    intro p e s m below meth cd ls H locs cells slots C hR hz hl b1 b2
    simp only at b1 b2
    have kk := fun H1 R1 => kk p e s m below meth cd ls H1 locs (cells + 1) (slots + n.toNatClampNeg) C R1 hz hl (by omega) (by omega)
    obtain ⟨hx, hb, hr, hml, hown, hts, hlocks, hnm, htb, hK⟩ := C
    refine va_newaK (atype := .long) hx hb (hts _ hq) rfl d rfl hn.1 rfl ?_ (by show cells + 1 ≤ X.2.2.2.2.1; omega) (by show slots + _ ≤ X.2.2.2.2.2; omega) rfl fun H1 cA g1 g2 g3 hAr hNm => ?_
    · exact Nat.le_trans (Nat.mul_le_mul hn.2 (show componentBytes (newarray.typeOf .long) ≤ 8 by decide)) (by decide)
    · rw [hR.1]
      exact kk H1 (sd_newarr (ty := .long) hK rfl hR (Option.some.inj (hNm.symm.trans ((hK.2.1 1 .long rfl).2 (by decide)))) (fun j _ => rfl) g1 g2 g3)
  · cases e1
theorem sd_p0 : ∀ (G : sd_G) (s : State), sd_K G s → s.vm.findClass ("[" ++ (newarray.typeOf .int).toString) = some (sd_A G 0) := fun _ _ hK => (hK.2.1 0 .int rfl).2 (by decide)
theorem sd_p2 : ∀ (G : sd_G) (s : State), sd_K G s → s.vm.findClass ("[" ++ (newarray.typeOf .byte).toString) = some (sd_A G 2) := fun _ _ hK => (hK.2.1 2 .byte rfl).2 (by decide)
theorem sd_p3 : ∀ (G : sd_G) (s : State), sd_K G s → s.vm.findClass ("[" ++ (newarray.typeOf .boolean).toString) = some (sd_A G 3) := fun _ _ hK => (hK.2.1 3 .boolean rfl).2 (by decide)
theorem sj_newQ {α : Type} {K : Nat → sd_M α} {ρ : α} {h2 : sd_H} {t index : Nat} {n : Int32} {E : String} (ht : sd_ty[t]? = some (.object E)) (hao : E ∈ sd_aos) (hq : Cond.classLink Y.1.cls index E ∈ lw_all) (hf : sd_bnd (sd_newQ t n) K h = some (ρ, c, h2)) (d : decode Y.2.1 pc = .ok (.anewarray index, 3)) (kk : ∀ (q : Nat) (h1 : sd_H) (c1 : Nat × Nat), K q h1 = some (ρ, c1, h2) → sd_J Y X (pc + 3) L (.ref q :: st) h1 c1) : sd_J Y X pc L (.int n :: st) h c := by
  obtain ⟨u, c1, c2, h1, e1, e2, rfl⟩ := sd_bnd_some hf
  unfold sd_newQ at e1
  split at e1
  · next hn =>
    cases e1
    have kk := kk _ _ _ e2
    intro p e s m below meth cd ls H locs cells slots C hR hz hl b1 b2
    simp only at b1 b2
    have kk := fun H1 R1 => kk p e s m below meth cd ls H1 locs (cells + 1) (slots + n.toNatClampNeg) C R1 hz hl (by omega) (by omega)
    obtain ⟨hx, hb, hr, hml, hown, hts, hlocks, hnm, htb, hK⟩ := C
    refine W.anew hx hb hown (hts _ hq) (va_AO.use (hK.2.2.2.2.2.2.1 E hao)) rfl d rfl hn.1 ?_ (by show cells + 1 ≤ X.2.2.2.2.1; omega) (by show slots + _ ≤ X.2.2.2.2.2; omega) fun cA kA comp v1 v2 v3 v4 => ?_
    · exact Nat.le_trans (Nat.mul_le_mul hn.2 (Nat.le_refl 4)) (by decide)
    · obtain ⟨kA', comp', -, -, -, w4⟩ := (hK.2.1 t (.object E) ht).2 (sd_aos7 ht hao)
      rw [hR.1]
      exact kk _ (sd_newarr (x := (n.toNatClampNeg, .inr (.inr (.inr (.inr (fun _ => none)))))) hK ht hR (Option.some.inj (v1.symm.trans w4)) (fun j _ => rfl) (by rw [arrV_new]; simp; rfl) (by simp) (fun q hq => by rw [Array.getElem?_push, if_neg (Nat.ne_of_lt hq)]))
  · cases e1
/-! ends -/
def sd_oI (x : Int32) : Option Value ⊕ Nat := .inl (some (.int x))
def sd_oL (x : Int64) : Option Value ⊕ Nat := .inl (some (.long x))
def sd_oD (x : UInt64) : Option Value ⊕ Nat := .inl (some (.double x))
def sd_oR (x : Nat) : Option Value ⊕ Nat := .inl (some (.ref x))
def sd_oQ (x : Option Nat) : Option Value ⊕ Nat := .inl (some (va_rf x))
def sd_oV (_ : Unit) : Option Value ⊕ Nat := .inl none
/-- .. of what may throw -/
def sd_ox {α : Type} (o : α → Option Value ⊕ Nat) (x : α ⊕ Nat) : Option Value ⊕ Nat := match x with
  | .inl a => o a
  | .inr q => .inr q
theorem sd_ret_some {α : Type} {a ρ : α} {h2 : sd_H} (hf : sd_ret a h = some (ρ, c, h2)) : ρ = a ∧ c = (0, 0) ∧ h2 = h := by
  unfold sd_ret at hf
  cases hf
  exact ⟨rfl, rfl, rfl⟩
theorem sj_iret {α : Type} {o : α → Option Value ⊕ Nat} {a ρ : α} {x : Int32} {h2 : sd_H} (hf : sd_ret a h = some (ρ, c, h2)) (hX : X.2.2.2.1 = (o ρ, h2)) (ho : o a = .inl (some (.int x))) (hr : Y.2.2.2.1 = some .int) (d : decode Y.2.1 pc = .ok (.ireturn, 1)) : sd_J Y X pc L [.int x] h c := by
  obtain ⟨rfl, rfl, rfl⟩ := sd_ret_some hf
  intro p e s m below meth cd ls H locs cells slots C hR hz hl b1 b2
  refine vy_ret (W.widen b1 b2 ?_)
  exact W.iret C.1 C.2.1 (by rw [C.2.2.1]; exact hr) (fun t ht hW => ⟨_, (by rw [hX]; exact ho), rfl, (by rw [hX, ht]; exact hR)⟩) hz d C.2.2.2.2.2.2.1
theorem sj_lret {α : Type} {o : α → Option Value ⊕ Nat} {a ρ : α} {x : Int64} {h2 : sd_H} (hf : sd_ret a h = some (ρ, c, h2)) (hX : X.2.2.2.1 = (o ρ, h2)) (ho : o a = .inl (some (.long x))) (hr : Y.2.2.2.1 = some .long) (d : decode Y.2.1 pc = .ok (.lreturn, 1)) : sd_J Y X pc L [.long x] h c := by
  obtain ⟨rfl, rfl, rfl⟩ := sd_ret_some hf
  intro p e s m below meth cd ls H locs cells slots C hR hz hl b1 b2
  refine vy_ret (W.widen b1 b2 ?_)
  exact W.lret C.1 C.2.1 (by rw [C.2.2.1]; exact hr) (fun t ht hW => ⟨_, (by rw [hX]; exact ho), rfl, (by rw [hX, ht]; exact hR)⟩) hz d C.2.2.2.2.2.2.1
theorem sj_dret {α : Type} {o : α → Option Value ⊕ Nat} {a ρ : α} {x : UInt64} {h2 : sd_H} (hf : sd_ret a h = some (ρ, c, h2)) (hX : X.2.2.2.1 = (o ρ, h2)) (ho : o a = .inl (some (.double x))) (hr : Y.2.2.2.1 = some .double) (d : decode Y.2.1 pc = .ok (.dreturn, 1)) : sd_J Y X pc L [.double x] h c := by
  obtain ⟨rfl, rfl, rfl⟩ := sd_ret_some hf
  intro p e s m below meth cd ls H locs cells slots C hR hz hl b1 b2
  refine vy_ret (W.widen b1 b2 ?_)
  exact W.dret C.1 C.2.1 (by rw [C.2.2.1]; exact hr) (fun t ht hW => ⟨_, (by rw [hX]; exact ho), rfl, (by rw [hX, ht]; exact hR)⟩) hz d C.2.2.2.2.2.2.1
/-- an int of a small type; n says that it fits -/
theorem sj_zretC {α : Type} {o : α → Option Value ⊕ Nat} {a ρ : α} {x : Int32} {ty : FieldType} {h2 : sd_H} (n : narrow ty (.int x) = .int x) (hf : sd_ret a h = some (ρ, c, h2)) (hX : X.2.2.2.1 = (o ρ, h2)) (ho : o a = .inl (some (.int x))) (hr : Y.2.2.2.1 = some ty) (d : decode Y.2.1 pc = .ok (.ireturn, 1)) : sd_J Y X pc L [.int x] h c := by
  obtain ⟨rfl, rfl, rfl⟩ := sd_ret_some hf
  intro p e s m below meth cd ls H locs cells slots C hR hz hl b1 b2
  refine vy_ret (W.widen b1 b2 ?_)
  exact W.zret C.1 C.2.1 (by rw [C.2.2.1]; exact hr) n (fun t ht hW => ⟨_, (by rw [hX]; exact ho), rfl, (by rw [hX, ht]; exact hR)⟩) hz d C.2.2.2.2.2.2.1
/-- .. checked by the function -/
theorem sj_zret {ρ x : Int32} {ty : FieldType} {h2 : sd_H} (hf : sd_retN ty x h = some (ρ, c, h2)) (hX : X.2.2.2.1 = (sd_oI ρ, h2)) (hr : Y.2.2.2.1 = some ty) (d : decode Y.2.1 pc = .ok (.ireturn, 1)) : sd_J Y X pc L [.int x] h c := by
  unfold sd_retN at hf
  split at hf
  · next n => exact sj_zretC (o := sd_oI) n (show sd_ret x h = some (ρ, c, h2) from hf) hX rfl hr d
  · cases hf
theorem sj_vret {α : Type} {o : α → Option Value ⊕ Nat} {a ρ : α} {h2 : sd_H} (hf : sd_ret a h = some (ρ, c, h2)) (hX : X.2.2.2.1 = (o ρ, h2)) (ho : o a = .inl none) (hr : Y.2.2.2.1 = none) (d : decode Y.2.1 pc = .ok (.return_, 1)) : sd_J Y X pc L [] h c := by
  obtain ⟨rfl, rfl, rfl⟩ := sd_ret_some hf
  intro p e s m below meth cd ls H locs cells slots C hR hz hl b1 b2
  refine vy_ret (W.widen b1 b2 ?_)
  exact W.vret C.1 C.2.1 (by rw [C.2.2.1]; exact hr) (fun t ht hW => ⟨_, (by rw [hX]; exact ho), rfl, (by rw [hX, ht]; exact hR)⟩) hz d C.2.2.2.2.2.2.1
theorem sj_aret {α : Type} {o : α → Option Value ⊕ Nat} {a ρ : α} {x : Nat} {rt : FieldType} {h2 : sd_H} (hf : sd_ret a h = some (ρ, c, h2)) (hX : X.2.2.2.1 = (o ρ, h2)) (ho : o a = .inl (some (.ref x))) (hr : Y.2.2.2.1 = some rt) (hrt : (∃ n, rt = .object n) ∨ ∃ t, rt = .array t) (d : decode Y.2.1 pc = .ok (.areturn, 1)) : sd_J Y X pc L [.ref x] h c := by
  obtain ⟨rfl, rfl, rfl⟩ := sd_ret_some hf
  intro p e s m below meth cd ls H locs cells slots C hR hz hl b1 b2
  refine vy_ret (W.widen b1 b2 ?_)
  exact W.aret C.1 C.2.1 (by rw [C.2.2.1]; exact hr) hrt (Or.inr ⟨x, rfl⟩) (fun t ht hW => ⟨_, (by rw [hX]; exact ho), rfl, (by rw [hX, ht]; exact hR)⟩) hz d C.2.2.2.2.2.2.1
theorem sj_aretQ {α : Type} {o : α → Option Value ⊕ Nat} {a ρ : α} {x : Option Nat} {rt : FieldType} {h2 : sd_H} (hf : sd_ret a h = some (ρ, c, h2)) (hX : X.2.2.2.1 = (o ρ, h2)) (ho : o a = .inl (some (va_rf x))) (hr : Y.2.2.2.1 = some rt) (hrt : (∃ n, rt = .object n) ∨ ∃ t, rt = .array t) (d : decode Y.2.1 pc = .ok (.areturn, 1)) : sd_J Y X pc L [va_rf x] h c := by
  obtain ⟨rfl, rfl, rfl⟩ := sd_ret_some hf
  intro p e s m below meth cd ls H locs cells slots C hR hz hl b1 b2
  refine vy_ret (W.widen b1 b2 ?_)
  exact W.aret C.1 C.2.1 (by rw [C.2.2.1]; exact hr) hrt (by cases x with | none => exact Or.inl rfl | some y => exact Or.inr ⟨y, rfl⟩) (fun t ht hW => ⟨_, (by rw [hX]; exact ho), rfl, (by rw [hX, ht]; exact hR)⟩) hz d C.2.2.2.2.2.2.1
/-! constants -/
theorem sj_ldc {index : Nat} {v : Int32} (hq : Cond.constant Y.1.cls index v ∈ lw_all) (d : decode Y.2.1 pc = .ok (.ldc index, 2)) (k : sd_J Y X (pc + 2) L (.int v :: st) h c) : sd_J Y X pc L st h c := fun p e s m below meth cd ls H locs cells slots C hR hz hl b1 b2 => lv_ldc C.1 C.2.1 C.2.2.2.2.1 (C.2.2.2.2.2.1 _ hq) d (k p e s m below meth cd ls H locs cells slots C hR hz hl b1 b2)
theorem sj_ldcw {index : Nat} {v : Int32} (hq : Cond.constant Y.1.cls index v ∈ lw_all) (d : decode Y.2.1 pc = .ok (.ldc_w index, 3)) (k : sd_J Y X (pc + 3) L (.int v :: st) h c) : sd_J Y X pc L st h c := fun p e s m below meth cd ls H locs cells slots C hR hz hl b1 b2 => lv_ldcw C.1 C.2.1 C.2.2.2.2.1 (C.2.2.2.2.2.1 _ hq) d (k p e s m below meth cd ls H locs cells slots C hR hz hl b1 b2)
theorem sj_ldc2 {index : Nat} {v : Int64} (hq : Cond.constantLong Y.1.cls index v ∈ lw_all) (d : decode Y.2.1 pc = .ok (.ldc2_w index, 3)) (k : sd_J Y X (pc + 3) L (.long v :: st) h c) : sd_J Y X pc L st h c := fun p e s m below meth cd ls H locs cells slots C hR hz hl b1 b2 => lv_ldc2 C.1 C.2.1 C.2.2.2.2.1 (C.2.2.2.2.2.1 _ hq) d (k p e s m below meth cd ls H locs cells slots C hR hz hl b1 b2)
theorem sj_ldcS {index : Nat} (j : Nat) {tx : String} {n : Nat} (hj : sd_strs[j]? = some (Y.1.cls, index, tx, n)) (d : decode Y.2.1 pc = .ok (.ldc index, 2)) (k : sd_J Y X (pc + 2) L (.ref (sd_ad X.1.2 n) :: st) h c) : sd_J Y X pc L st h c := fun p e s m below meth cd ls H locs cells slots C hR hz hl b1 b2 => va_ldcS C.1 C.2.1 C.2.2.2.2.1 (C.2.2.2.2.2.2.2.2.2.2.2.2.2.1 _ (List.mem_of_getElem? hj)) d (k p e s m below meth cd ls H locs cells slots C hR hz hl b1 b2)
theorem sd_R.S {G : sd_G} {H : Heap} {locs : List Loc} (hR : sd_R G h H) (hz : ∀ z ∈ locs, sd_z G ≤ z.base) : va_S (fun a => sd_z G ≤ a) (sd_O G) H locs := ⟨by rw [hR.2.2.1, hR.1]; exact hR.2.1, fun q hq _ => hR.2.2.2.1 q (by rw [hR.2.2.1] at hq; exact hq), hz⟩
/-- a static field: the place j of sd_sts -/
theorem sj_gets {index : Nat} (j : Nat) {C n d ref : String} {x : Int32 ⊕ Nat ⊕ Nat} {v : Value} (hj : sd_sts[j]? = some (C, n, d, x)) (hv : sd_stv X.1.2 x = v) (hq : (Cond.fieldLink Y.1.cls index ref n d ∈ lw_all ∨ ∃ host, Cond.fieldLinkNest Y.1.cls index ref n d host ∈ lw_tbl) ∧ ref = C) (dd : decode Y.2.1 pc = .ok (.getstatic index, 3)) (k : sd_J Y X (pc + 3) L (v :: st) h c) : sd_J Y X pc L st h c := by
  intro p e s m below meth cd ls H locs cells slots Cc hR hz hl b1 b2
  have k := k p e s m below meth cd ls H locs cells slots Cc hR hz hl b1 b2
  obtain ⟨hx, hb, hr, hml, hown, hts, hlocks, hnm, htb, hK⟩ := Cc
  have hZ := hK.2.2.2.1 _ (List.mem_of_getElem? hj)
  obtain ⟨cf, kf, fi, f, a, cell, h1, h2, h3, h4, h5, h6, h7, h8⟩ := hZ
  obtain ⟨hq, rfl⟩ := hq
  have hc : H[a]? = some cell := by rw [hR.2.2.2.1 a (by rw [← hR.2.2.1]; exact (Array.getElem?_eq_some_iff.mp h5).1)]; exact h5
  rw [hv] at h7
  rcases hq with hq | ⟨host, hq⟩
  · exact W.gets hx hb hown (hts _ hq) h1 h2 h3 h4 hc (fun e => by rw [e] at h6; cases h6) h7 rfl dd k
  · exact va_WgetsN hx hb hown (va_Nw.use rfl (hK.2.2.1 _ hq rfl)) h1 h2 h3 h4 hc (fun e => by rw [e] at h6; cases h6) h7 rfl dd k

end SJ
