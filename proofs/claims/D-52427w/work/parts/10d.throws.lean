/-! what throws: 'throw new E()', exceptions that pass through, the making of a Fault -/
section SJT
variable {Y : sd_Y} {X : sd_X} {pc : Nat} {L : List (Nat × Value)} {st : List Value} {h : sd_H} {c : Nat × Nat} {α β : Type} {h2 : sd_H}
theorem sd_inT {ws : List Cond} (ps : List Nat) (hp : ws = ps.filterMap (fun i => lw_tbl[i]?)) : ∀ w ∈ ws, w ∈ lw_tbl := by
  intro w hw
  rw [hp] at hw
  obtain ⟨i, -, hi⟩ := List.mem_filterMap.mp hw
  exact List.mem_of_getElem? hi
/-- a word that rides in the lists, or that the layer keeps -/
def sd_gk (w : Cond) : Bool := (goodWord w || sd_kw w) && vy_ot w
theorem sd_gk_at {G : sd_G} {s : State} {args : Array Value} (ok : ∀ w ∈ lw_all, w.before args s = true) (hK : sd_K G s) {w : Cond} (hw : w ∈ lw_tbl) (hg : sd_gk w = true) : w.before args s = true := by
  simp only [sd_gk, Bool.and_eq_true, Bool.or_eq_true] at hg
  by_cases g : goodWord w = true
  · exact ok w (List.mem_filter.mpr ⟨hw, g⟩)
  · rcases hg.1 with z | z
    · exact absurd z g
    · refine va_Nw.use ?_ (hK.2.2.1 w hw z)
      have := hg.2
      simp only [vy_ot, Bool.or_eq_true] at this
      rcases this with z1 | z1
      · exact z1
      · exact absurd z1 g
theorem sd_all_ot {w : Cond} (hw : w ∈ lw_all) : vy_ot w = true := by
  simp only [vy_ot, Bool.or_eq_true]
  exact Or.inr (List.mem_filter.mp hw).2
/-- 'throw new E()' -/
theorem sj_throw0 {o : α → Option Value ⊕ Nat} {ρ : α ⊕ Nat} {ci ik ic : Nat} {cls : String} {T0 : u_T} (names : List String) (ps : List Nat) (hlt : X.1.1.stackTraces = false) (hX : X.2.2.2.1 = (sd_ox o ρ, h2)) (hh : Y.2.2.2.2 = none) (hc : sd_cl[ci]? = some (cls, T0, 0)) (h51 : ci ≠ 51) (hcls : Bundle.fit cls = true) (hnames : ∀ n ∈ names, Bundle.fit n = true)
    (hp : vy_at0 Y.1.cls ic cls names = ps.filterMap (fun i => lw_tbl[i]?)) (hg : (vy_at0 Y.1.cls ic cls names).all sd_gk = true) (hk : Cond.classLink Y.1.cls ik cls ∈ lw_all) (hini : Cond.initialized cls ∈ lw_all) (hfr : names.length + 3 < X.2.1.1) (hlo : (st.map fun v => v.category).sum + (13 * (names.length + 1) + 42) ≤ X.2.1.2)
    (d0 : decode Y.2.1 pc = .ok (.new ik, 3)) (d3 : decode Y.2.1 (pc + 3) = .ok (.dup, 1)) (d4 : decode Y.2.1 (pc + 4) = .ok (.invokespecial ic, 3)) (d7 : decode Y.2.1 (pc + 7) = .ok (.athrow, 1)) (hf : sd_bnd (sd_new ci 6 []) (fun q => sd_ret (.inr q)) h = some (ρ, c, h2)) : sd_J Y X pc L st h c := by
  obtain ⟨u, c1, c2, h1, e1, e2, rfl⟩ := sd_bnd_some hf
  unfold sd_new at e1
  cases e1
  obtain ⟨rfl, rfl, rfl⟩ := sd_ret_some e2
  intro p e s m below meth cd ls H locs cells slots C hR hz hl b1 b2
  have ok := C.2.2.2.2.2.1
  simp only at b1 b2
  have hgw := List.all_eq_true.mp hg
  refine vy_throw0 (H0 := sd_O X.1.2) (A := fun a => sd_z X.1.2 ≤ a) (names := names) C.1 C.2.1 hlt C.2.2.2.2.1 hcls hnames (ok _ hk) (ok _ hini) (fun w hw => sd_gk_at ok C.K (sd_inT ps hp w hw) (hgw w hw)) (fun w hw => ?_) C.K.2.2.2.2.2.2.2.2.2.2.1 C.K.2.2.2.2.2.2.2.2.2.2.2 (hR.S hz) (hl.1.trans C.2.2.2.1.symm) d0 d3 d4 d7 (fun x hx => ?_) hfr hlo (by show cells + 1 ≤ X.2.2.2.2.1; omega) (by show slots + 6 ≤ X.2.2.2.2.2; omega) C.2.2.2.2.2.2.1 (fun t ce _ hsz hold hce hvm hcl => ?_) hz (by omega) (by omega)
  · rcases List.mem_cons.mp hw with rfl | hw
    · exact sd_all_ot hk
    · rcases List.mem_cons.mp hw with rfl | hw
      · exact sd_all_ot hini
      · have := hgw w hw
        simp only [sd_gk, Bool.and_eq_true] at this
        exact this.2
  · rw [C.2.2.2.2.2.2.2.2.1] at hx
    unfold sd_tb at hx
    rw [hh] at hx
    cases hx
  · refine ⟨by rw [hX, hR.1]; rfl, ?_⟩
    rw [hX]
    refine hR.push hce hsz hold ⟨(by rw [hvm]; exact fun z => by cases z), (by rw [hvm]; rfl), fun _ => hvm, ?_, _, hc, fun k hk9 => absurd hk9 (Nat.not_lt_zero k), fun z => absurd z h51⟩
    exact Option.some.inj (hcl.symm.trans (C.K.1 ci _ hc).1)
/-- what may throw, bound: with a way on for what was thrown -/
def sd_bx (f : sd_M (α ⊕ Nat)) (KX : Nat → sd_M β) (K : α → sd_M β) : sd_M β := sd_bnd f fun x => match x with
  | .inl a => K a
  | .inr q => KX q
theorem sd_bx_some {f : sd_M (α ⊕ Nat)} {KX : Nat → sd_M β} {K : α → sd_M β} {ρ : β} (hf : sd_bx f KX K h = some (ρ, c, h2)) : ∃ (x : α ⊕ Nat) (c1 c2 : Nat × Nat) (h1 : sd_H), f h = some (x, c1, h1) ∧ c = (c1.1 + c2.1, c1.2 + c2.2) ∧ ((∃ a, x = .inl a ∧ K a h1 = some (ρ, c2, h2)) ∨ ∃ q, x = .inr q ∧ KX q h1 = some (ρ, c2, h2)) := by
  obtain ⟨a, c1, c2, h1, e1, e2, rfl⟩ := sd_bnd_some hf
  refine ⟨a, c1, c2, h1, e1, rfl, ?_⟩
  cases a with
  | inl a => exact Or.inl ⟨a, rfl, e2⟩
  | inr q => exact Or.inr ⟨q, rfl, e2⟩
theorem sj_xI {f : sd_M (Int32 ⊕ Nat)} {KX : Nat → sd_M β} {K : Int32 → sd_M β} {ρ : β} {rest : List Value} {ln : Nat} (hr : ∀ r c1 h1, f h = some (r, c1, h1) → sd_Cl Y X ln pc L st rest h (sd_ox sd_oI r) h1 c1) (hf : sd_bx f KX K h = some (ρ, c, h2)) (kx : ∀ q h1 c2, KX q h1 = some (ρ, c2, h2) → sd_JX Y X pc L q h1 c2) (kk : ∀ r h1 c2, K r h1 = some (ρ, c2, h2) → sd_J Y X (pc + ln) L (.int r :: rest) h1 c2) : sd_J Y X pc L st h c := by
  obtain ⟨x, c1, c2, h1, e1, rfl, ⟨a, rfl, e2⟩ | ⟨q, rfl, e2⟩⟩ := sd_bx_some hf
  · exact hr _ _ _ e1 c2 (kk _ _ _ e2)
  · exact hr _ _ _ e1 c2 (kx _ _ _ e2)
theorem sj_xL {f : sd_M (Int64 ⊕ Nat)} {KX : Nat → sd_M β} {K : Int64 → sd_M β} {ρ : β} {rest : List Value} {ln : Nat} (hr : ∀ r c1 h1, f h = some (r, c1, h1) → sd_Cl Y X ln pc L st rest h (sd_ox sd_oL r) h1 c1) (hf : sd_bx f KX K h = some (ρ, c, h2)) (kx : ∀ q h1 c2, KX q h1 = some (ρ, c2, h2) → sd_JX Y X pc L q h1 c2) (kk : ∀ r h1 c2, K r h1 = some (ρ, c2, h2) → sd_J Y X (pc + ln) L (.long r :: rest) h1 c2) : sd_J Y X pc L st h c := by
  obtain ⟨x, c1, c2, h1, e1, rfl, ⟨a, rfl, e2⟩ | ⟨q, rfl, e2⟩⟩ := sd_bx_some hf
  · exact hr _ _ _ e1 c2 (kk _ _ _ e2)
  · exact hr _ _ _ e1 c2 (kx _ _ _ e2)
theorem sj_xR {f : sd_M (Nat ⊕ Nat)} {KX : Nat → sd_M β} {K : Nat → sd_M β} {ρ : β} {rest : List Value} {ln : Nat} (hr : ∀ r c1 h1, f h = some (r, c1, h1) → sd_Cl Y X ln pc L st rest h (sd_ox sd_oR r) h1 c1) (hf : sd_bx f KX K h = some (ρ, c, h2)) (kx : ∀ q h1 c2, KX q h1 = some (ρ, c2, h2) → sd_JX Y X pc L q h1 c2) (kk : ∀ r h1 c2, K r h1 = some (ρ, c2, h2) → sd_J Y X (pc + ln) L (.ref r :: rest) h1 c2) : sd_J Y X pc L st h c := by
  obtain ⟨x, c1, c2, h1, e1, rfl, ⟨a, rfl, e2⟩ | ⟨q, rfl, e2⟩⟩ := sd_bx_some hf
  · exact hr _ _ _ e1 c2 (kk _ _ _ e2)
  · exact hr _ _ _ e1 c2 (kx _ _ _ e2)
theorem sj_xV {f : sd_M (Unit ⊕ Nat)} {KX : Nat → sd_M β} {K : Unit → sd_M β} {ρ : β} {rest : List Value} {ln : Nat} (hr : ∀ r c1 h1, f h = some (r, c1, h1) → sd_Cl Y X ln pc L st rest h (sd_ox sd_oV r) h1 c1) (hf : sd_bx f KX K h = some (ρ, c, h2)) (kx : ∀ q h1 c2, KX q h1 = some (ρ, c2, h2) → sd_JX Y X pc L q h1 c2) (kk : ∀ h1 c2, K () h1 = some (ρ, c2, h2) → sd_J Y X (pc + ln) L rest h1 c2) : sd_J Y X pc L st h c := by
  obtain ⟨x, c1, c2, h1, e1, rfl, ⟨a, rfl, e2⟩ | ⟨q, rfl, e2⟩⟩ := sd_bx_some hf
  · exact hr _ _ _ e1 c2 (kk _ _ e2)
  · exact hr _ _ _ e1 c2 (kx _ _ _ e2)
/-- not caught here -/
theorem sj_outX {o : α → Option Value ⊕ Nat} {ρ : α ⊕ Nat} {q : Nat} (hf : sd_ret (.inr q) h = some (ρ, c, h2)) (hX : X.2.2.2.1 = (sd_ox o ρ, h2)) (hh : ∀ x ∈ sd_tb Y, covers x pc = false) : sd_JX Y X pc L q h c := by
  obtain ⟨rfl, rfl, rfl⟩ := sd_ret_some hf
  intro p e s m below meth cd ls H locs cells slots rest E ce C hR hz hl b1 b2 hce hv hcl
  refine vy_out (by rw [C.2.2.2.2.2.2.2.2.1]; exact hh) C.2.2.2.2.2.2.1 hce hv hcl (fun t ht _ => ⟨by rw [hX]; rfl, by rw [hX, ht]; exact hR⟩) hz ?_ ?_
  · simpa using b1
  · simpa using b2
/-- an answer of a small type, of what may throw -/
def sd_retNX (ty : FieldType) (x : Int32) : sd_M (Int32 ⊕ Nat) := fun h => if narrow ty (.int x) = .int x then some (.inl x, (0, 0), h) else none
end SJT
