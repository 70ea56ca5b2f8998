/-! calls of methods of enum constants' own classes: no word says that those are initialised -/
section SJZ
variable {Y : sd_Y} {X : sd_X} {pc : Nat} {L : List (Nat × Value)} {st : List Value} {h : sd_H} {c : Nat × Nat}
theorem sj_runZ {index n a ci : Nat} {owner : String} {x : MethodName} {st rest As fs : List Value} {q : vw_C} {Y1 : sd_Y} {X1 : sd_X} (hM : sd_Met Y1 X1 h) (he : sd_look X.1.2 h a = some (.inr (ci, fs))) (hc : sd_cl[ci]? = some q) (h1 : X1.1 = X.1) (hh : Y1.2.2.2.2 = none) (q1 : Cond.methodLink Y.1.cls index x ∈ lw_all) (q2 : Cond.sameMethod x.cls owner x.name x.desc ∈ lw_all) (q3 : Cond.selects q.1 x Y1.1 ∈ lw_all) (q4 : Cond.instanceMethod Y1.1 ∈ lw_all) (q6 : Cond.code Y1.1 Y1.2.1 Y1.2.2.1 Y1.2.2.2.1 ∈ lw_all) (hdc : Cond.declares ⟨owner, x.name, x.desc⟩ ∈ lw_tbl) (hn : sd_nm ⟨owner, x.name, x.desc⟩ n = true) (ha : X1.2.2.1 = .ref a :: As) (hl : As.length = n) (hok : sd_ok Y1 X1 X) (hst : st = As.reverse ++ .ref a :: rest) (hW : (rest.map fun v => v.category).sum ≤ 8) (d : decode Y.2.1 pc = .ok (.invokevirtual index, 3)) : sd_Cl Y X 3 pc L st rest h X1.2.2.2.1.1 X1.2.2.2.1.2 X1.2.2.2.2 := by
  refine sd_behind (X1 := X1) (av := X1.2.2.1.toArray) h1 ?_
  intro p e s m below meth cd ls H locs cells slots C hR hl2 b1 b2
  have hw : sd_ws Y1 = ws_ Y1.1 Y1.2.1 Y1.2.2.1 Y1.2.2.2.1 := by unfold sd_ws; rw [hh]
  unfold sd_Met at hM
  rw [hw] at hM
  rw [show X1.1.1 = X.1.1 by rw [h1]] at hM
  have hp := sd_pre (X1 := X1) (by rw [h1]) C.K hR
  rw [ha] at hp hM ⊢
  obtain ⟨cellB, hcB, hoB, hclB⟩ := sd_recv C.K hR he hc
  have ok := C.2.2.2.2.2.1
  have hd := sd_nm_ok hn
  have hK : vy_Back X.1.1 (sd_rm X) p e below s X.2.2.1.toArray Y1.1 3 8 _ _ _ := vy_back0 (bytes := Y1.2.1) (maxL := Y1.2.2.1) (ret := Y1.2.2.2.1) hM hp.1 rfl rfl hok.1 hok.2 (pay_in ok (lw_meth q6)) List.mem_cons_self
  intro T hT S
  rcases vy_callVU S C.1 (C := q.1) (owner := owner) (bytes := Y1.2.1) (maxL := Y1.2.2.1) (ret := Y1.2.2.2.1) C.2.2.2.2.1 (ok _ q1) (ok _ q2) (va_Decl.abs (C.K.2.2.1 _ hdc rfl)) ⟨hd.1, hd.2.1⟩ (ok _ q3) (ok _ q4) (ok _ q6) hK (by rw [hT]; exact hcB) hoB hclB (g := F0 m pc ls st) rfl (hl2.1.trans C.2.2.2.1.symm) (argsL := As) (rest := rest) (fun sig z => by
      have h2 := hd.2.2
      simp only at h2
      rw [z] at h2
      rw [hl]
      exact (Option.some.inj h2).symm) hst (lv_room hW) (by rw [C.2.1]; exact d)
    (fun vm₁ hW₁ => ⟨b1, b2, hp.2 (T.setVm vm₁) hT hW₁⟩) with ⟨v, vm₁, ⟨U', l2, c2, s2⟩, hW₁, X', ⟨g', mk, t, L, e1, e2, hq, h1, hL, h2, h3⟩, st⟩ | ⟨q, vm₁, ⟨U', l2, c2, s2⟩, hW₁, X', ⟨g', mk, t, L, E, ce, e1, e2, hq, hce, hcv, hcl, h1, hL, h2, h3⟩, st⟩
  · dsimp only [Pt.U, Pt.locs, Pt.cells, Pt.slots] at X' e1 e2 h1 h2 h3 st
    subst h1; subst h2; subst h3
    exact Or.inl ⟨v, (T.setVm vm₁).calling g' mk (Value.ref a :: As).toArray, t, U', L, hT, X', hL, e1, e2, hq, st⟩
  · dsimp only [Pt.U, Pt.locs, Pt.cells, Pt.slots] at X' e1 e2 h1 h2 h3 st hcl
    subst h1; subst h2; subst h3
    exact Or.inr ⟨q, (T.setVm vm₁).calling g' mk (Value.ref a :: As).toArray, t, U', L, E, ce, hT, X', hL, e1, e2, hq, hce, hcv, vy_cls hW₁ hcl, st⟩
end SJZ
