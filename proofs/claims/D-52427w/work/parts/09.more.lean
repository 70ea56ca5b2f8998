/-! more of the layer: loops, dispatch, casts, switches, reference arrays -/
def sd_loop {σ α : Type} (F : (σ → sd_M α) → σ → sd_M α) : Nat → σ → sd_M α
  | 0, _ => sd_fail
  | n + 1, s => F (sd_loop F n) s
/-- the object at a is of class number ci -/
def sd_isC (G : sd_G) (ci a : Nat) : sd_M Unit := fun h => match sd_look G h a with
  | some (.inr o) => if o.1 = ci then some ((), (0, 0), h) else none
  | _ => none
def sd_nz (y : Int32) : sd_M Unit := fun h => if y = 0 then none else some ((), (0, 0), h)
def sd_dn (x y : UInt64) : sd_M Unit := fun h => if FP.ddiv x y &&& 0x7fffffffffffffff ≤ 0x7ff0000000000000 then some ((), (0, 0), h) else none
def sd_cast (G : sd_G) (cis : List Nat) (a : Nat) : sd_M Unit := fun h => match sd_look G h a with
  | some (.inr o) => if o.1 ∈ cis then some ((), (0, 0), h) else none
  | _ => none
/-- the class number of an object -/
def sd_cls (G : sd_G) (a : Nat) : sd_M Nat := fun h => match sd_look G h a with
  | some (.inr o) => some (o.1, (0, 0), h)
  | _ => none
/-- a field of a constant object -/
def sd_cget (G : sd_G) (i a : Nat) : sd_M Nat := fun h => match sd_cf G i a with
  | some v => some (v, (0, 0), h)
  | none => none
/-- which classes' objects may lie in a reference array of type number t -/
def sd_may (t ci : Nat) : Bool := if t = 4 then decide (ci ∈ [3, 8, 10, 11, 17, 18, 19, 20, 21, 22, 23, 41]) else if t = 5 then decide (ci = 44) else false
def sd_okQ (G : sd_G) (h : sd_H) (t : Nat) (v : Option Nat) : Bool := match v with
  | none => true
  | some y => match sd_look G h y with
    | some (.inr o) => sd_may t o.1
    | _ => false
theorem sd_okQ_some {G : sd_G} {h : sd_H} {t y : Nat} (e : sd_okQ G h t (some y) = true) : ∃ o, sd_look G h y = some (.inr o) ∧ sd_may t o.1 = true := by
  unfold sd_okQ at e
  simp only at e
  split at e
  · next o ho => exact ⟨o, ho, e⟩
  · cases e
def sd_astQ (G : sd_G) (t a : Nat) (i : Int32) (v : Option Nat) : sd_M Unit := fun h => match h.2 a with
  | some (.inl (t', n, .inr (.inr (.inr (.inr f))))) => if t' = t ∧ sd_ix i n = true ∧ sd_okQ G h t v = true then some ((), (0, 0), sd_up h a (.inl (t, n, .inr (.inr (.inr (.inr (va_up f i.toNatClampNeg v))))))) else none
  | _ => none
section SJM
variable {Y : sd_Y} {X : sd_X} {pc : Nat} {L : List (Nat × Value)} {st : List Value} {h : sd_H} {c : Nat × Nat} {α : Type} {ρ : α} {h2 : sd_H}
theorem sj_loc {L' : List (Nat × Value)} (ks : List Nat) (hk : lv_pick L ks = L') (k : sd_J Y X pc L' st h c) : sd_J Y X pc L st h c := fun p e s m below meth cd ls H locs cells slots C hR hz hl b1 b2 => k p e s m below meth cd ls H locs cells slots C hR hz (lv_sub hl ks hk) b1 b2
theorem sj_nameI {K : Int32 → sd_M α} {x : Int32} (hf : sd_bnd (sd_ret x) K h = some (ρ, c, h2)) (kk : ∀ y, K y h = some (ρ, c, h2) → sd_J Y X pc L (.int y :: st) h c) : sd_J Y X pc L (.int x :: st) h c := kk x (sd_let hf)
theorem sj_nameL {K : Int64 → sd_M α} {x : Int64} (hf : sd_bnd (sd_ret x) K h = some (ρ, c, h2)) (kk : ∀ y, K y h = some (ρ, c, h2) → sd_J Y X pc L (.long y :: st) h c) : sd_J Y X pc L (.long x :: st) h c := kk x (sd_let hf)
theorem sj_nameD {K : UInt64 → sd_M α} {x : UInt64} (hf : sd_bnd (sd_ret x) K h = some (ρ, c, h2)) (kk : ∀ y, K y h = some (ρ, c, h2) → sd_J Y X pc L (.double y :: st) h c) : sd_J Y X pc L (.double x :: st) h c := kk x (sd_let hf)
theorem sj_nameR {K : Nat → sd_M α} {x : Nat} (hf : sd_bnd (sd_ret x) K h = some (ρ, c, h2)) (kk : ∀ y, K y h = some (ρ, c, h2) → sd_J Y X pc L (.ref y :: st) h c) : sd_J Y X pc L (.ref x :: st) h c := kk x (sd_let hf)
theorem sj_nameQ {K : Option Nat → sd_M α} {x : Option Nat} (hf : sd_bnd (sd_ret x) K h = some (ρ, c, h2)) (kk : ∀ y, K y h = some (ρ, c, h2) → sd_J Y X pc L (va_rf y :: st) h c) : sd_J Y X pc L (va_rf x :: st) h c := kk x (sd_let hf)
theorem sj_iincN {K : Int32 → sd_M α} {i : Nat} {n : Int} {x : Int32} (j : Nat) (L' : Int32 → List (Nat × Value)) (n' : Int32) (hf : sd_bnd (sd_ret (x + n')) K h = some (ρ, c, h2)) (d : decode Y.2.1 pc = .ok (.iinc i n, 3)) (hj : L[j]? = some (i, .int x)) (hv : Int32.ofInt n = n') (hn : i < Y.2.2.1) (hL : ∀ v, (i, Value.int v) :: L.filter (fun q => !(q.1 == i) && !(q.1 + 1 == i && q.2.category == 2)) = L' v) (kk : ∀ v, K v h = some (ρ, c, h2) → sd_J Y X (pc + 3) (L' v) st h c) : sd_J Y X pc L st h c := sj_iinc j (x + n') (L' (x + n')) d hj (by rw [hv]) hn (hL _) (kk _ (sd_let hf))
theorem sd_cat1 (x : Option Nat) : (va_rf x).category = 1 := by cases x <;> rfl
theorem sj_ifnullR {off : Int} {x : Nat} (d : decode Y.2.1 pc = .ok (.ifnull off, 3)) (k : sd_J Y X (pc + 3) L st h c) : sd_J Y X pc L (.ref x :: st) h c := fun p e s m below meth cd ls H locs cells slots C hR hz hl b1 b2 => lv_ifnull C.1 C.2.1 d (k p e s m below meth cd ls H locs cells slots C hR hz hl b1 b2)
theorem sj_ifnonnullR {off : Int} {x : Nat} (tgt : Nat) (d : decode Y.2.1 pc = .ok (.ifnonnull off, 3)) (ht : (pc : Int) + off = (tgt : Int)) (k : sd_J Y X tgt L st h c) : sd_J Y X pc L (.ref x :: st) h c := fun p e s m below meth cd ls H locs cells slots C hR hz hl b1 b2 => lv_ifnonnull C.1 C.2.1 d ht (k p e s m below meth cd ls H locs cells slots C hR hz hl b1 b2)
theorem sd_isC_some {G : sd_G} {ci a : Nat} {K : Unit → sd_M α} (hf : sd_bnd (sd_isC G ci a) K h = some (ρ, c, h2)) : ∃ fs, sd_look G h a = some (.inr (ci, fs)) ∧ K () h = some (ρ, c, h2) := by
  obtain ⟨u, e1, e2⟩ := sd_bnd_pure (fun _ _ _ e => by unfold sd_isC at e; split at e; split at e <;> cases e; exact ⟨rfl, rfl⟩; cases e) hf
  unfold sd_isC at e1
  split at e1
  · next o ho =>
    split at e1
    · next hc => exact ⟨o.2, by rw [ho, ← hc], e2⟩
    · cases e1
  · cases e1
theorem sd_cls_some {G : sd_G} {a : Nat} {K : Nat → sd_M α} (hf : sd_bnd (sd_cls G a) K h = some (ρ, c, h2)) : ∃ ci fs, sd_look G h a = some (.inr (ci, fs)) ∧ K ci h = some (ρ, c, h2) := by
  obtain ⟨u, e1, e2⟩ := sd_bnd_pure (fun _ _ _ e => by unfold sd_cls at e; split at e <;> cases e; exact ⟨rfl, rfl⟩) hf
  unfold sd_cls at e1
  split at e1
  · next o ho => cases e1; exact ⟨o.1, o.2, ho, e2⟩
  · cases e1
theorem sd_nz_some {y : Int32} {K : Unit → sd_M α} (hf : sd_bnd (sd_nz y) K h = some (ρ, c, h2)) : ¬ y = 0 ∧ K () h = some (ρ, c, h2) := by
  obtain ⟨u, e1, e2⟩ := sd_bnd_pure (fun _ _ _ e => by unfold sd_nz at e; split at e <;> cases e; exact ⟨rfl, rfl⟩) hf
  unfold sd_nz at e1
  split at e1
  · cases e1
  · next hc => exact ⟨hc, e2⟩
theorem sd_dn_some {x y : UInt64} {K : Unit → sd_M α} (hf : sd_bnd (sd_dn x y) K h = some (ρ, c, h2)) : vf_n64 (FP.ddiv x y) ∧ K () h = some (ρ, c, h2) := by
  obtain ⟨u, e1, e2⟩ := sd_bnd_pure (fun _ _ _ e => by unfold sd_dn at e; split at e <;> cases e; exact ⟨rfl, rfl⟩) hf
  unfold sd_dn at e1
  split at e1
  · next hc => exact ⟨hc, e2⟩
  · cases e1
theorem sd_cast_some {G : sd_G} {cis : List Nat} {a : Nat} {K : Unit → sd_M α} (hf : sd_bnd (sd_cast G cis a) K h = some (ρ, c, h2)) : ∃ ci fs, sd_look G h a = some (.inr (ci, fs)) ∧ ci ∈ cis ∧ K () h = some (ρ, c, h2) := by
  obtain ⟨u, e1, e2⟩ := sd_bnd_pure (fun _ _ _ e => by unfold sd_cast at e; split at e; split at e <;> cases e; exact ⟨rfl, rfl⟩; cases e) hf
  unfold sd_cast at e1
  split at e1
  · next o ho =>
    split at e1
    · next hc => exact ⟨o.1, o.2, ho, hc, e2⟩
    · cases e1
  · cases e1
/-- objects of these classes pass a cast to nm -/
def sd_Fc (cis : List Nat) (nm : String) : Prop := ∀ ci r, ci ∈ cis → sd_cl[ci]? = some r → r.1 = nm ∨ Cond.castable r.1 nm ∈ lw_tbl
theorem sj_cast {ci index a : Nat} {fs : List Value} {cis : List Nat} {nm : String} (he : sd_look X.1.2 h a = some (.inr (ci, fs))) (hm : ci ∈ cis) (F : sd_Fc cis nm) (hq : Cond.classLink Y.1.cls index nm ∈ lw_all) (d : decode Y.2.1 pc = .ok (.checkcast index, 3)) (k : sd_J Y X (pc + 3) L (.ref a :: st) h c) : sd_J Y X pc L (.ref a :: st) h c := by
  intro p e s m below meth cd ls H locs cells slots C hR hz hl b1 b2
  have k := k p e s m below meth cd ls H locs cells slots C hR hz hl b1 b2
  obtain ⟨-, cell, q1, g1, g2, g3, g4, r, hc, -⟩ := hR.look he
  have hK := C.2.2.2.2.2.2.2.2.2
  have hfc := (hK.1 ci r hc).1
  rw [← g4] at hfc
  rcases F ci r hm hc with z | z
  · rw [z] at hfc
    exact va_castE C.1 C.2.1 C.2.2.2.2.1 (C.2.2.2.2.2.1 _ hq) ⟨cell, q1, g2, hfc⟩ d k
  · exact va_castY C.1 C.2.1 C.2.2.2.2.1 (C.2.2.2.2.2.1 _ hq) (hK.2.2.1 _ z rfl) ⟨cell, q1, g2, hfc⟩ d k
theorem sj_cget {K : Nat → sd_M α} {index a : Nat} {q : String × String × String} (i : Nat) (hi : sd_cfs[i]? = some q) (hq : Cond.fieldLink Y.1.cls index q.1 q.2.1 q.2.2 ∈ lw_all ∨ ∃ host, Cond.fieldLinkNest Y.1.cls index q.1 q.2.1 q.2.2 host ∈ lw_tbl) (hf : sd_bnd (sd_cget X.1.2 i a) K h = some (ρ, c, h2)) (d : decode Y.2.1 pc = .ok (.getfield index, 3)) (kk : ∀ v, K v h = some (ρ, c, h2) → sd_J Y X (pc + 3) L (.ref v :: st) h c) : sd_J Y X pc L (.ref a :: st) h c := by
  obtain ⟨v, e1, e2⟩ := sd_bnd_pure (fun _ _ _ e => by unfold sd_cget at e; split at e <;> cases e; exact ⟨rfl, rfl⟩) hf
  unfold sd_cget at e1
  split at e1
  · next w hw =>
    cases e1
    intro p e s m below meth cd ls H locs cells slots C hR hz hl b1 b2
    have kk := kk _ e2 p e s m below meth cd ls H locs cells slots C hR hz hl b1 b2
    have hK := C.2.2.2.2.2.2.2.2.2
    obtain ⟨cf, k, fi, f, cell, z1, z2, z3, z4, z5, z6⟩ := hK.2.2.2.2.2.2.2.1 i q a _ hi hw
    have hc : H[a]? = some cell := by rw [hR.2.2.2.1 a (by rw [← hR.2.2.1]; exact (Array.getElem?_eq_some_iff.mp z3).1)]; exact z3
    rcases hq with hq | ⟨host, hq⟩
    · exact W.getf C.1 C.2.1 C.2.2.2.2.1 (C.2.2.2.2.2.1 _ hq) z1 z2 hc z4 z5 rfl rfl d kk
    · exact va_Wgetf C.1 C.2.1 C.2.2.2.2.1 (va_Nw.use rfl (hK.2.2.1 _ hq rfl)) z1 z2 hc z4 z5 rfl rfl d kk
  · cases e1
theorem sj_lsw {dflt : Int} {ps : Array (Int × Int)} {len : Nat} {x k : Int32} (tgt : Nat) (d : decode Y.2.1 pc = .ok (.lookupswitch dflt ps, len)) (hx : x = k) (hp : (ps.toList.zip (ps.toList.drop 1)).all (fun (a, next) => a.1 < next.1) = true) (ho : Op.lookupswitch.offset ps.toList dflt k.toInt = (tgt : Int) - (pc : Int)) (ht : (pc : Int) + ((tgt : Int) - (pc : Int)) = (tgt : Int)) (kk : sd_J Y X tgt L st h c) : sd_J Y X pc L (.int x :: st) h c := fun p e s m below meth cd ls H locs cells slots C hR hz hl b1 b2 => lv_lookup C.1 C.2.1 d hp (by rw [hx]; exact ho) ht (kk p e s m below meth cd ls H locs cells slots C hR hz hl b1 b2)
theorem sj_lswD {dflt : Int} {ps : Array (Int × Int)} {len : Nat} {x : Int32} (tgt : Nat) (d : decode Y.2.1 pc = .ok (.lookupswitch dflt ps, len)) (hp : (ps.toList.zip (ps.toList.drop 1)).all (fun (a, next) => a.1 < next.1) = true) (ho : Op.lookupswitch.offset ps.toList dflt x.toInt = dflt) (ht : (pc : Int) + dflt = (tgt : Int)) (kk : sd_J Y X tgt L st h c) : sd_J Y X pc L (.int x :: st) h c := fun p e s m below meth cd ls H locs cells slots C hR hz hl b1 b2 => lv_lookup C.1 C.2.1 d hp ho ht (kk p e s m below meth cd ls H locs cells slots C hR hz hl b1 b2)
theorem sj_tsw {dflt lo hi : Int} {offs : Array Int} {len : Nat} {x k : Int32} (tgt : Nat) (d : decode Y.2.1 pc = .ok (.tableswitch dflt lo hi offs, len)) (hx : x = k) (h1 : ¬ k.toInt < lo) (h3 : ¬ hi < k.toInt) (ho : offs[(k.toInt - lo).toNat]? = some ((tgt : Int) - (pc : Int))) (ht : (pc : Int) + ((tgt : Int) - (pc : Int)) = (tgt : Int)) (kk : sd_J Y X tgt L st h c) : sd_J Y X pc L (.int x :: st) h c := fun p e s m below meth cd ls H locs cells slots C hR hz hl b1 b2 => lv_tableIn C.1 C.2.1 d (by rw [hx]; exact h1) (by rw [hx]; exact h3) (by rw [hx]; exact ho) ht (kk p e s m below meth cd ls H locs cells slots C hR hz hl b1 b2)
theorem sj_tswD {dflt lo hi : Int} {offs : Array Int} {len : Nat} {x : Int32} (tgt : Nat) (d : decode Y.2.1 pc = .ok (.tableswitch dflt lo hi offs, len)) (hx : x.toInt < lo ∨ hi < x.toInt) (ht : (pc : Int) + dflt = (tgt : Int)) (kk : sd_J Y X tgt L st h c) : sd_J Y X pc L (.int x :: st) h c := fun p e s m below meth cd ls H locs cells slots C hR hz hl b1 b2 => lv_tableOut C.1 C.2.1 d hx ht (kk p e s m below meth cd ls H locs cells slots C hR hz hl b1 b2)
theorem sj_runIN {index n a : Nat} {host : String} {st rest As : List Value} {Y1 : sd_Y} {X1 : sd_X} (hM : sd_Met Y1 X1 h) (h1 : X1.1 = X.1) (hh : Y1.2.2.2 = (none, none)) (q1 : Cond.methodLinkNest Y.1.cls index Y1.1 host ∈ lw_tbl) (q2 : Cond.instanceMethod Y1.1 ∈ lw_all) (q3 : Cond.initialized Y1.1.cls ∈ lw_all) (q4 : Cond.code Y1.1 Y1.2.1 Y1.2.2.1 none ∈ lw_all) (hy : Y1.1.name = "<init>") (hn : sd_nm Y1.1 n = true) (ha : X1.2.2.1 = .ref a :: As) (hl : As.length = n) (ho : ∀ q, X1.2.2.2.1.1 ≠ .inr q) (hok : sd_ok Y1 X1 X) (hst : st = As.reverse ++ .ref a :: rest) (hW : (rest.map fun v => v.category).sum ≤ 8) (d : decode Y.2.1 pc = .ok (.invokespecial index, 3)) : sd_Cl Y X 3 pc L st rest h X1.2.2.2.1.1 X1.2.2.2.1.2 X1.2.2.2.2 := by
  refine sd_behind (X1 := X1) (av := X1.2.2.1.toArray) h1 ?_
  intro p e s m below meth cd ls H locs cells slots C hR hl2 b1 b2
  have hM := sd_Met_of hM ho
  have hw : sd_ws Y1 = ws_ Y1.1 Y1.2.1 Y1.2.2.1 none := by unfold sd_ws; rw [hh]
  rw [hw] at hM
  rw [show X1.1.1 = X.1.1 by rw [h1]] at hM
  have hp := sd_pre (X1 := X1) (by rw [h1]) C.2.2.2.2.2.2.2.2.2 hR
  rw [ha] at hp hM ⊢
  exact fun T hT S => Or.inl (va_runIN (n := n) (g := F0 m pc ls st) (b := a) (As := As) ⟨C.1, C.2.1, C.2.2.2.1, C.2.2.2.2.1, C.2.2.2.2.2.1⟩ hM ⟨va_cnB (R := sd_rm X) n C.2.2.2.2.2.1 (lw_meth q4) rfl rfl rfl (C.2.2.2.2.2.2.2.2.2.2.2.1 _ q1 rfl) (C.2.2.2.2.2.1 _ q3) (sd_nm_ok hn) hok, hy, C.2.2.2.2.2.1 _ q2⟩ hp rfl hl hl2.1 hst (lv_room hW) d ⟨b1, b2⟩ T hT S)
end SJM
