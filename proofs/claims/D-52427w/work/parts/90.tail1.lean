def R_law : String := "SofaDigLaw"
def lw_P (b : Addr) (xs : List Int32) (args : Array Value) (s : State) : Prop := args = #[.ref b] ∧ s.IntsAt b xs ∧ xs.length ≤ 384 ∧ (Jvm.Cond.and given_1 narrow_1).before args s = true
def lw_Q (_ : Array Value) (s : State) (o : Outcome) (t : State) : Prop := o = .returned (some (.int 1)) ∧ Framed s o t [] 601152 7263466
def lw_Z (below : List Frame) (a : Array Value) (s : State) : State → Prop := fun t => ∃ o, t.status = .running ∧ Ended t below o ∧ lw_Q a s o t
/-- the law's own end, with 1 on the stack, nothing written that was there before, its room as the claim has it -/
theorem lw_ret {p : Program} {l : Launch} {e : Env} {s : State} {m : MethodId} {below : List Frame} {meth : Method} {c : Code} {b : Nat} (hx : p.tables.exec = Jvm.exec) (hb : c.code = code) (hr : meth.sig.returnType = ret) (hlocks : meth.locks = false) {pc : Nat} {H : Heap} {ls : Array Slot} (hdg : decode code pc = .ok (.ireturn, 1)) : W p l e room_1 s m #[Value.ref b] below meth c H [] 601152 7263466 (lw_Z below #[Value.ref b] s) (F0 m pc ls [.int 1]) := by
  intro T hT X
  obtain ⟨fs, hret, hrun, hended, hW, hframe⟩ := X.leave (v := some (.int 1)) (hlocks := hlocks) (fun h => by rw [hr] at h; cases h)
  have hmeth' : T.vm.method? m = some meth := X.method'
  refine ⟨T.setFrames fs, ?_, .returned (some (.int 1)), hrun, hended, rfl, ⟨_, rfl⟩, hW, hframe⟩
  jvm_step X.here [X.here.top, hx, hb, hdg, hmeth', hr, ret, narrow_b1]
  (try refine ⟨rfl, ?_⟩); (try refine ⟨rfl, ?_⟩)
  first | (intro acts; rw [hret _ acts rfl rfl rfl]) | rw [hret _ _ rfl rfl rfl]
  exact Steps.refl _
/-- what holds at the law's entry: the machine, the code, the tables' words (any of lw_tbl by 'hts w (by decide +kernel)'), the script of L ints xs at the cell b, what the Statement gives of the start (any of its parts by flat_of_before) -/
def lw_At (p : Program) (s : State) (m : MethodId) (meth : Method) (c : Code) (b L : Nat) (xs : Nat → Int32) : Prop :=
  p.tables.exec = Jvm.exec ∧ c.code = code ∧ meth.sig.returnType = ret ∧ c.maxLocals = 9 ∧ s.vm.findClass R_law = some m.cls ∧ (∀ w ∈ lw_tbl, w.before #[Value.ref b] s = true) ∧ va_X b L xs s s.heap ∧ b < s.heap.size ∧ meth.locks = false ∧ (Jvm.Cond.and given_1 narrow_1).before #[Value.ref b] s = true ∧ c.exceptionTable.toList = [] ∧ meth.name = "law"
/-- the law's end, out of its function's answer -/
theorem law_end {p : Program} {e : Env} {s : State} {m : MethodId} {below : List Frame} {meth : Method} {c : Code} (l : Launch) (hl : l.stackTraces = false) {b L : Nat} {xs : Nat → Int32} (C0 : lw_At p s m meth c b L xs) (G : sd_G) {c0 : Nat × Nat} {h2 : sd_H} (hK : sd_K G s) (hz : sd_z G = s.heap.size) (hR : sd_R G (s.heap.size, fun _ => none) s.heap)
    (hf : fL_law G b (s.heap.size, fun _ => none) = some (1, c0, h2)) (h1 : c0.1 ≤ 601152) (h3 : c0.2 ≤ 7263466) : W p l e room_1 s m #[Value.ref b] below meth c s.heap [] 0 0 (lw_Z below #[Value.ref b] s) (entryFrame m ([Value.ref b] : List Value).toArray 9) := by
  obtain ⟨g1, g2, g3, g4, g5, g6, -, -, g9, -, g11, g12⟩ := C0
  have hJ := sL_law l hl G b (s.heap.size, fun _ => none) 1 (601152, 7263466) c0 h2 hf
  have hle := lv_entry (n := 9) [Value.ref b] (Nat.le_of_ble_eq_true rfl)
  rw [lg_entry_eq m [Value.ref b] 9]
  have w := hJ p e s m below meth c _ s.heap [] 0 0 ⟨g1, g2, g3, g4, g5, fun w hw => g6 w (lw_all_tbl hw), g9, g12, g11, hK⟩ hR (fun _ hz => nomatch hz) hle (by simpa using h1) (by simpa using h3)
  intro T hT S
  obtain ⟨t, a1, o, b1, b2, b3⟩ := w T hT S
  refine ⟨t, a1, o, b1, b2, ?_⟩
  rcases b3 with ⟨⟨v, v1, v2, -⟩, L9, hfe, hL⟩ | ⟨q, -, E, ce, L9, hx, -⟩
  · cases v1
    refine ⟨v2, ?_⟩
    obtain ⟨f1, f2, f3, f4, f5, f6, f7, f8⟩ := hfe
    refine ⟨f1, f2, f3, f4, f5, f6, f7, fun a cc ha => ?_⟩
    obtain ⟨c', y1, y2, y3, y4⟩ := f8 a cc ha
    refine ⟨c', y1, y2, y3, fun i _ => y4 i (fun hm => ?_)⟩
    have := hL _ hm
    have ha2 : a < s.heap.size := (Array.getElem?_eq_some_iff.mp ha).1
    exact absurd (show sd_z G ≤ a from this) (Nat.not_le_of_lt (by rw [hz]; exact ha2))
  · cases hx.1
