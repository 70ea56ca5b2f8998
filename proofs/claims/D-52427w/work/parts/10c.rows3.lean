/-! a byte array's clone, casts of arrays, float constants -/
section SJC
variable {Y : sd_Y} {X : sd_X} {pc : Nat} {L : List (Nat × Value)} {st : List Value} {h : sd_H} {c : Nat × Nat} {α : Type} {ρ : α} {h2 : sd_H}
def sd_clB (G : sd_G) (a : Nat) : sd_M Nat := fun h => match sd_look G h a with
  | some (.inl (t, n, .inl f)) => if t = 2 ∧ (List.range n).all (fun j => fits .byte (.int (f j))) = true then some (h.1, (1, n), sd_pu h (.inl (2, n, .inl f))) else none
  | _ => none
theorem sd_clB_some {G : sd_G} {a q : Nat} {c1 : Nat × Nat} {h h1 : sd_H} (e : sd_clB G a h = some (q, c1, h1)) : ∃ n f, sd_look G h a = some (.inl (2, n, .inl f)) ∧ (∀ j, j < n → fits .byte (.int (f j)) = true) ∧ q = h.1 ∧ c1 = (1, n) ∧ h1 = sd_pu h (.inl (2, n, .inl f)) := by
  unfold sd_clB at e
  split at e
  · next t n f hl =>
    split at e
    · next hc =>
      cases e
      obtain ⟨rfl, h2⟩ := hc
      exact ⟨n, f, hl, fun j hj => List.all_eq_true.mp h2 j (List.mem_range.mpr hj), rfl, rfl, rfl⟩
    · cases e
  · cases e
theorem sj_clone {K : Nat → sd_M α} {index a : Nat} (q1 : Cond.methodLink Y.1.cls index ⟨"[B", "clone", "()Ljava/lang/Object;"⟩ ∈ lw_all) (q2 : Cond.sameMethod "[B" "java/lang/Object" "clone" "()Ljava/lang/Object;" ∈ lw_all) (q3 : Cond.native ⟨"java/lang/Object", "clone", "()Ljava/lang/Object;"⟩ ∈ lw_all) (q4 : Cond.instanceMethod ⟨"java/lang/Object", "clone", "()Ljava/lang/Object;"⟩ ∈ lw_all) (q5 : Cond.selects "[B" ⟨"[B", "clone", "()Ljava/lang/Object;"⟩ ⟨"java/lang/Object", "clone", "()Ljava/lang/Object;"⟩ ∈ lw_all) (q6 : Cond.castable "[B" "java/lang/Cloneable" ∈ lw_tbl) (hfr : 1 ≤ X.2.1.1) (hlo : (st.map fun v => v.category).sum + 14 ≤ X.2.1.2) (hf : sd_bnd (sd_clB X.1.2 a) K h = some (ρ, c, h2)) (d : decode Y.2.1 pc = .ok (.invokevirtual index, 3)) (kk : ∀ (q : Nat) (h1 : sd_H) (c1 : Nat × Nat), K q h1 = some (ρ, c1, h2) → sd_J Y X (pc + 3) L (.ref q :: st) h1 c1) : sd_J Y X pc L (.ref a :: st) h c := by
  obtain ⟨u, c1, c2, h1, e1, e2, rfl⟩ := sd_bnd_some hf
  obtain ⟨n, f, he, hfit, rfl, rfl, rfl⟩ := sd_clB_some e1
  have kk := kk _ _ _ e2
  intro p e s m below meth cd ls H locs cells slots C hR hz hl b1 b2
  simp only at b1 b2
  have kk := fun H1 R1 => kk p e s m below meth cd ls H1 locs (cells + 1) (slots + n) C R1 hz hl (by omega) (by omega)
  obtain ⟨hlt, cell, v1, v2, v3, v4, v5, v6, v7, v8⟩ := hR.look he
  have v5 := v5.resolve_right (fun q => by cases q.1)
  dsimp only at v5 v6 v7 v8
  have hA := C.K.2.1 2 .byte rfl
  have hfc : s.vm.findClass "[B" = some (sd_A X.1.2 2) := va_nm_byte (hA.2 (by decide))
  obtain ⟨c0, t0, f1, f2, f3⟩ := Cond.castable_spec (va_Nw.use (A := X.2.2.1.toArray) rfl (C.K.2.2.1 _ q6 rfl))
  cases hfc.symm.trans f1
  intro T hT S
  obtain ⟨-, kA, hkA, comp, hkind⟩ := State.isArrayOf_alike S.warmed.alike (hA.1 0 (fun _ => .null))
  obtain ⟨-, kS, hkS, compS, hkindS⟩ := hA.1 0 (fun _ => .null)
  obtain ⟨vm', S', sg⟩ := S.cloneArray C.1 C.2.2.2.2.1 (C.2.2.2.2.2.1 _ q1) (C.2.2.2.2.2.1 _ q2) (C.2.2.2.2.2.1 _ q3) (C.2.2.2.2.2.1 _ q4) (C.2.2.2.2.2.1 _ q5) (a := a) (cell := cell) (by rw [hT]; exact v1) (fun k z => by rw [z] at v3; cases v3) v2 (by rw [v5]; exact hfc) f2 (by rw [v5]; exact f3)
    (fun i v hv => by
      rw [v5]
      have hi : i < n := by rw [← v7]; exact (Array.getElem?_eq_some_iff.mp hv).1
      rw [v8 i hi] at hv
      cases hv
      have hk' : T.vm.classes[sd_A X.1.2 2]? = some kA := hkA
      simpa [State.fitsSlot, State.slotType?, hk', hkind, sd_sv] using hfit i hi)
    (g := F0 m pc ls (.ref a :: st)) rfl (by show ls.size = _; rw [hl.1]; exact C.2.2.2.1.symm) rfl (by rw [C.2.1]; exact d) hfr (by show 2 * 0 + _ + 14 ≤ _; simp only [sd_rm]; omega) (by show cells + 1 ≤ X.2.2.2.2.1; omega) (by rw [v7]; show slots + n ≤ X.2.2.2.2.2; omega) (hloader := by rw [v5]; exact Vm.clonesLoader_of_array hkS hkindS)
  rw [v7] at S'
  have R1 : sd_R X.1.2 (sd_pu h (.inl (2, n, .inl f))) (H.push { cls := cell.cls, slots := cell.slots }) := hR.push (cell := { cls := cell.cls, slots := cell.slots }) (by rw [Array.getElem?_push_size]) (by rw [Array.size_push]) (fun q hq => by rw [Array.getElem?_push, if_neg (Nat.ne_of_lt hq)]) ⟨fun z => (by cases z), rfl, fun _ => rfl, Or.inl v5, v6, v7, v8⟩
  obtain ⟨t, g1, g2⟩ := kk _ R1 ((T.setVm vm').pushCell { cls := cell.cls, slots := cell.slots }) (by rw [← hT]; rfl) S'
  refine ⟨t, sg t ?_, g2⟩
  rw [hT, hR.1]
  exact g1
def sd_isA (G : sd_G) (t a : Nat) : sd_M Unit := fun h => match sd_look G h a with
  | some (.inl x) => if x.1 = t then some ((), (0, 0), h) else none
  | _ => none
theorem sj_castA {K : Unit → sd_M α} {index a t : Nat} {nm : String} (hnm : ∀ G s, sd_K G s → s.vm.findClass nm = some (sd_A G t)) (hf : sd_bnd (sd_isA X.1.2 t a) K h = some (ρ, c, h2)) (hq : Cond.classLink Y.1.cls index nm ∈ lw_all) (d : decode Y.2.1 pc = .ok (.checkcast index, 3)) (kk : K () h = some (ρ, c, h2) → sd_J Y X (pc + 3) L (.ref a :: st) h c) (ht0 : t ≠ 0 := by decide) : sd_J Y X pc L (.ref a :: st) h c := by
  obtain ⟨u, c1, c2, h1, e1, e2, rfl⟩ := sd_bnd_some hf
  unfold sd_isA at e1
  split at e1
  · next x he =>
    split at e1
    · next ht =>
      cases e1
      subst ht
      simp only [Nat.zero_add] at kk ⊢
      have kk := kk e2
      intro p e s m below meth cd ls H locs cells slots C hR hz hl b1 b2
      have kk := kk p e s m below meth cd ls H locs cells slots C hR hz hl b1 b2
      obtain ⟨hlt, cell, v1, v2, v3, v4, v5, -⟩ := hR.look he
      have v5 := v5.resolve_right (fun q => ht0 q.1)
      intro T hT S
      obtain ⟨vm', S', sg⟩ := S.checkcastYes C.1 C.2.2.2.2.1 (C.2.2.2.2.2.1 _ hq) (by rw [hT]; exact v1) v3 (hnm _ _ C.K) (by rw [v5]; exact va_asg _ _) (g := F0 m pc ls (.ref a :: st)) rfl rfl (by rw [C.2.1]; exact d)
      obtain ⟨t, a1, b1⟩ := kk (T.setVm vm') hT S'
      exact ⟨t, sg t a1, b1⟩
    · cases e1
  · cases e1
theorem sd_nmB : ∀ (G : sd_G) (s : State), sd_K G s → s.vm.findClass "[B" = some (sd_A G 2) := fun _ _ hK => va_nm_byte ((hK.2.1 2 .byte rfl).2 (by decide))
theorem sj_ldcf {index : Nat} {v : UInt32} (hq : Cond.constantFloat Y.1.cls index v ∈ lw_all) (d : decode Y.2.1 pc = .ok (.ldc index, 2)) (k : sd_J Y X (pc + 2) L (.float v :: st) h c) : sd_J Y X pc L st h c := fun p e s m below meth cd ls H locs cells slots C hR hz hl b1 b2 => lv_ldcf C.1 C.2.1 C.2.2.2.2.1 (C.2.2.2.2.2.1 _ hq) d (k p e s m below meth cd ls H locs cells slots C hR hz hl b1 b2)
end SJC
