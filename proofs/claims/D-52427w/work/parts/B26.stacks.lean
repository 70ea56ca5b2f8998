/-! THE PLAIN LAW: all stacks copied -/
/-- what is taken over behind the stacks -/
def tkR (G : sd_G) (w0 w1 : Nat) : sd_M Nat :=
    sd_bnd (sd_getR G 2 3 w0) fun v7 =>
    sd_bnd (sd_isC G 41 v7) fun _ =>
    sd_bnd (fJ2_clear G v7) fun _ =>
    sd_bnd (sd_getR G 2 3 w0) fun v8 =>
    sd_bnd (sd_getR G 2 3 w1) fun v9 =>
    sd_bnd (sd_isC G 41 v8) fun _ =>
    sd_bnd (fJ2_addAll G v8 v9) fun r10 =>
    sd_bnd (sd_getR G 2 4 w0) fun v11 =>
    sd_bnd (sd_isC G 41 v11) fun _ =>
    sd_bnd (fJ2_clear G v11) fun _ =>
    sd_bnd (sd_getR G 2 4 w0) fun v12 =>
    sd_bnd (sd_getR G 2 4 w1) fun v13 =>
    sd_bnd (sd_isC G 41 v12) fun _ =>
    sd_bnd (fJ2_addAll G v12 v13) fun r14 =>
    sd_bnd (sd_getR G 2 5 w0) fun v15 =>
    sd_bnd (sd_isC G 41 v15) fun _ =>
    sd_bnd (fJ2_clear G v15) fun _ =>
    sd_bnd (sd_getR G 2 5 w0) fun v16 =>
    sd_bnd (sd_getR G 2 5 w1) fun v17 =>
    sd_bnd (sd_isC G 41 v16) fun _ =>
    sd_bnd (fJ2_addAll G v16 v17) fun r18 =>
    sd_bnd (sd_getR G 2 6 w1) fun v19 =>
    sd_bnd (sd_getR G 2 6 w0) fun v20 =>
    sd_bnd (sd_cpI G 0 v19 0 v20 0 24) fun _ =>
    sd_bnd (sd_getI G 2 7 w1) fun v21 =>
    sd_bnd (sd_put 2 7 .int w0 (.int v21)) fun _ =>
    sd_bnd (sd_getI G 2 8 w1) fun v22 =>
    sd_bnd (sd_put 2 8 .int w0 (.int v22)) fun _ =>
    sd_bnd (sd_getI G 2 9 w1) fun v23 =>
    sd_bnd (sd_put 2 9 .int w0 (.int v23)) fun _ =>
    sd_bnd (sd_getI G 2 10 w1) fun v24 =>
    sd_bnd (sd_put 2 10 .int w0 (.int v24)) fun _ =>
    sd_bnd (sd_getI G 2 11 w1) fun v25 =>
    sd_bnd (sd_put 2 11 .int w0 (.int v25)) fun _ =>
    sd_ret w0
abbrev CuZ : Type := Int32 × Int32 × Int32 × Int32
def cuC (z : CuZ) : sd_E := .inr (3, [.int z.1, .int z.2.1, .int z.2.2.1, .int z.2.2.2])
/-- addresses of copies: lists, arrays, cushions; mod counts -/
abbrev TkA : Type := (Nat → Nat) × (Nat → Nat) × (Nat → Nat → Nat) × (Nat → Int32)
/-- the copy of seat j: tl cushions of the cells z -/
def seatC (G : sd_G) (h : sd_H) (A : TkA) (j tl : Nat) (z : Nat → CuZ) : Prop := h.2 (A.1 j) = some (aL (A.2.2.2 j) (if tl = 0 then sd_ad G 0 else A.2.1 j) tl) ∧ (1 ≤ tl → h.2 (A.2.1 j) = some (aR 10 (fun k => if k < tl then some (A.2.2.1 j k) else none)) ∧ A.1 j < A.2.1 j) ∧ (∀ k, k < tl → h.2 (A.2.2.1 j k) = some (cuC (z k)) ∧ A.1 j < A.2.2.1 j k) ∧ ∀ k k', k < k' → k' < tl → A.2.2.1 j k < A.2.2.1 j k'
/-- all that belongs to seat j lies below u -/
def seatU (A : TkA) (j tl u : Nat) : Prop := A.1 j < u ∧ (1 ≤ tl → A.2.1 j < u) ∧ ∀ k, k < tl → A.2.2.1 j k < u
theorem seatC_fr {G : sd_G} {h h' : sd_H} {A A' : TkA} {j tl : Nat} {z : Nat → CuZ} (C : seatC G h A j tl z) (h1 : h'.2 (A.1 j) = h.2 (A.1 j)) (h2 : 1 ≤ tl → h'.2 (A.2.1 j) = h.2 (A.2.1 j)) (h3 : ∀ k, k < tl → h'.2 (A.2.2.1 j k) = h.2 (A.2.2.1 j k)) (e1 : A'.1 j = A.1 j) (e2 : A'.2.1 j = A.2.1 j) (e3 : A'.2.2.1 j = A.2.2.1 j) (e4 : A'.2.2.2 j = A.2.2.2 j) : seatC G h' A' j tl z := by
  obtain ⟨c1, c2, c3, c4⟩ := C
  unfold seatC
  rw [e1, e2, e3, e4]
  exact ⟨h1.trans c1, fun ht => ⟨(h2 ht).trans (c2 ht).1, (c2 ht).2⟩, fun k hk => ⟨(h3 k hk).trans (c3 k hk).1, (c3 k hk).2⟩, c4⟩
section TS
variable {G : sd_G} {h0 : sd_H} {b0 : Nat × Nat} {ns n0 B0 B2 R2 w1 lS r2 c2 it : Nat} {m2 : Int32} {f2 : Nat → Option Nat} {sl sr tl : Nat → Nat} {mcs : Nat → Int32} {fs : Nat → Nat → Option Nat} {ca : Nat → Nat → Nat} {z : Nat → Nat → CuZ}
theorem g_stacks {h : sd_H} {b : Nat × Nat} {mS : Int32} {cap0 : Nat} {f00 : Nat → Option Nat} {ob : List Value} {Q : Nat → sd_H → Nat × Nat → Prop} (hn8 : ns ≤ 8)
    (w : wfH G h) (hn0 : h.1 = n0 + 1) (hit : it = n0) (hI : h.2 it = some (aI (n3 0) (-1) m2 lS))
    (L : lsO G h B2 mS R2 0 cap0 f00) (hcap0 : cap0 ≤ 60)
    (hB0 : h.2 B0 = some (.inr (2, ob))) (hob : ob[2]? = some (.ref B2))
    (s1 : sd_look G h lS = some (aL m2 r2 ns)) (s2 : sd_look G h r2 = some (aR c2 f2)) (s3 : ns ≤ c2) (s4 : c2 ≤ 1000) (s5 : ∀ s, s < ns → f2 s = some (sl s))
    (t1 : ∀ s, s < ns → sd_look G h (sl s) = some (aL (mcs s) (sr s) (tl s)) ∧ tl s ≤ 10) (t2 : ∀ s, s < ns → 1 ≤ tl s → sd_look G h (sr s) = some (aR 10 (fs s)))
    (t3 : ∀ s k, s < ns → k < tl s → fs s k = some (ca s k) ∧ sd_look G h (ca s k) = some (cuC (z s k)) ∧ ((z s k).2.2.1 = 0 ∨ (z s k).2.2.1 = 1) ∧ ((z s k).2.2.2 = 0 ∨ (z s k).2.2.2 = 1))
    (d1 : lS ≠ B2) (d2 : r2 ≠ R2 ∧ r2 < n0) (d3 : ∀ s, s < ns → sl s ≠ B2 ∧ (1 ≤ tl s → sr s ≠ R2))
    (b1 : 23 * ns ≤ b.1) (b2 : 373 * ns ≤ b.2)
    (kk : ∀ h' b' mS' rS capS fS (A : TkA), wfH G h' → n0 + 1 ≤ h'.1 → (∀ y, y < n0 → y ≠ B2 → y ≠ R2 → h'.2 y = h.2 y) → lsO G h' B2 mS' rS ns capS fS → capS ≤ 60 → (rS = R2 ∨ n0 < rS) → (∀ j, j < ns → fS j = some (A.1 j) ∧ seatC G h' A j (tl j) (z j) ∧ n0 < A.1 j ∧ seatU A j (tl j) h'.1 ∧ (1 ≤ tl j → rS ≠ A.2.1 j) ∧ ∀ j', j' < j → seatU A j' (tl j') (A.1 j)) → b.1 ≤ b'.1 + 23 * ns → b.2 ≤ b'.2 + 373 * ns → wp (tkR G B0 w1) h' b' Q) : wp (sd_loop (fun k s => fX3_take_b31 G k s.1 s.2.1 s.2.2) sd_FU (B0, w1, it)) h b Q := by
  subst hit
  have hB0n : B0 < it := by
    have := (w.1 _ _ hB0).2
    have : B0 ≠ it := by
      intro e
      rw [e, hI] at hB0
      cases hB0
    omega
  have hB2n : B2 < it := by
    have := (w.1 _ _ L.1).2
    have : B2 ≠ it := by
      intro e
      rw [← e, L.1] at hI
      cases hI
    omega
  have hBB : B0 ≠ B2 := by
    intro e
    rw [e, L.1] at hB0
    cases hB0
  have ltl : ∀ {y : Nat} {e : sd_E}, sd_look G h y = some e → (∀ l m c r, e ≠ aI l m c r) → y < it := by
    intro y e hy he
    have h1 := wfH_lt w hy
    have : y ≠ it := by
      intro e2
      rw [e2, sd_look_new hI] at hy
      exact he _ _ _ _ (Option.some.inj hy).symm
    omega
  refine wp_for (F := fun k s => fX3_take_b31 G k s.1 s.2.1 s.2.2) ns (fun i (_ : Unit) => (B0, w1, it)) (fun i _ h' b' => ∃ (mS' : Int32) (rS capS : Nat) (fS : Nat → Option Nat) (A : TkA) (last : Int32), wfH G h' ∧ it + 1 ≤ h'.1 ∧ (∀ y, y < it → y ≠ B2 → y ≠ R2 → h'.2 y = h.2 y) ∧ lsO G h' B2 mS' rS i capS fS ∧ capS ≤ 60 ∧ (rS = R2 ∨ it < rS) ∧ h'.2 it = some (aI (n3 i) last m2 lS) ∧ (∀ j, j < i → fS j = some (A.1 j) ∧ seatC G h' A j (tl j) (z j) ∧ it < A.1 j ∧ seatU A j (tl j) h'.1 ∧ (1 ≤ tl j → rS ≠ A.2.1 j) ∧ ∀ j', j' < j → seatU A j' (tl j') (A.1 j)) ∧ b.1 ≤ b'.1 + 23 * i ∧ b.2 ≤ b'.2 + 373 * i) ?_ ?_ sd_FU 0 () h b (Nat.zero_le _) (by unfold sd_FU; omega) ⟨mS, R2, cap0, f00, (fun _ => 0, fun _ => 0, fun _ _ => 0, fun _ => 0), -1, w, by omega, fun _ _ _ _ => rfl, L, hcap0, Or.inl rfl, hI, fun j hj => by omega, by omega, by omega⟩
  · rintro k _ h' b' ⟨mS', rS, capS, fS, A, last, w', g1, g2, g3, g4, g5, g6, g7, g8, g9⟩
    have il := sd_look_new (G := G) g6
    have ll : sd_look G h' lS = some (aL m2 r2 ns) := (look_eq (g2 lS (ltl s1 (fun _ _ _ _ e => by cases e)) d1 (by
      intro e
      rcases L.2.1 with ⟨y1, -⟩ | ⟨y1, -⟩
      · obtain ⟨f, hf⟩ := wfH_z w
        rw [e, y1, hf] at s1
        cases s1
      · rw [e, sd_look_new y1] at s1
        cases s1))).trans s1
    unfold fX3_take_b31
    rw [wp_bnd, (it_rd il).2.2.2.2, wp_bnd, j_hasNext il ll (by omega) (by omega), if_pos rfl, if_pos rfl]
    exact kk h' b' mS' rS capS fS A w' g1 g2 g3 g4 (by omega) g7 g8 g9
  · rintro k i _ h' b' hi ⟨mS', rS, capS, fS, A, last, w', g1, g2, g3, g4, g5, g6, g7, g8, g9⟩ K1
    have nR : ∀ {y : Nat} {o : Nat × List Value}, sd_look G h y = some (.inr o) → y ≠ R2 := by
      intro y o hy e
      rcases L.2.1 with ⟨y1, -⟩ | ⟨y1, -⟩
      · obtain ⟨f, hf⟩ := wfH_z w
        rw [e, y1, hf] at hy
        cases hy
      · rw [e, sd_look_new y1] at hy
        cases hy
    have keepL : ∀ {y : Nat} {e : sd_E}, sd_look G h y = some e → y < it → y ≠ B2 → y ≠ R2 → sd_look G h' y = some e := fun hy a1 a2 a3 => (look_eq (g2 _ a1 a2 a3)).trans hy
    have il := sd_look_new (G := G) g6
    have lS1 : lS < it := ltl s1 (fun _ _ _ _ e => by cases e)
    have ll := keepL s1 lS1 d1 (nR s1)
    have nB : ∀ {y : Nat} {e : Nat × vp_A}, sd_look G h y = some (.inl e) → y ≠ B2 := by
      intro y e hy he
      rw [he, sd_look_new L.1] at hy
      cases hy
    have lr := keepL s2 d2.2 (nB s2) d2.1
    obtain ⟨x1, x2⟩ := t1 i hi
    have sl1 : sl i < it := ltl x1 (fun _ _ _ _ e => by cases e)
    have lsl := keepL x1 sl1 (d3 i hi).1 (nR x1)
    have h9 : ¬ (i = ns) := by omega
    have wA : wfH G (sd_up h' it (aI (n3 (i + 1)) (n3 i) m2 lS)) := wfH_up w' g6
    have gA : ∀ y, y ≠ it → (sd_up h' it (aI (n3 (i + 1)) (n3 i) m2 lS)).2 y = h'.2 y := fun y hy => up_ne hy
    have gI : (sd_up h' it (aI (n3 (i + 1)) (n3 i) m2 lS)).2 it = some (aI (n3 (i + 1)) (n3 i) m2 lS) := up_at _ _ _
    have gs : (sd_up h' it (aI (n3 (i + 1)) (n3 i) m2 lS)).1 = h'.1 := rfl
    unfold fX3_take_b31
    rw [wp_bnd, (it_rd il).2.2.2.2, wp_bnd, j_hasNext il ll (by omega) (by omega), if_neg h9, if_neg (by decide), wp_bnd, (it_rd il).2.2.2.2, wp_bnd, j_next g6 ll lr (by omega) (by omega) hi s3 (by omega) (s5 i hi)]
    generalize sd_up h' it (aI (n3 (i + 1)) (n3 i) m2 lS) = hA at wA gA gI gs ⊢
    have lA : sd_look G hA (sl i) = some (aL (mcs i) (sr i) (tl i)) := (look_eq (gA _ (by omega))).trans lsl
    rw [wp_bnd, (al_rd lA).2.2.2.2]
    simp only [wp_bnd]
    refine g_new wA (by omega) (by omega) ?_
    have lB : sd_look G (sd_pu hA (aL 0 (sd_ad G 0) 0)) (sl i) = some (aL (mcs i) (sr i) (tl i)) := (look_eq (pu_ne (by omega))).trans lA
    rw [(al_rd lB).2.2.2.1]
    refine g_iter (wfH_pu wA) lB (by show 1 ≤ b'.1 - 1; omega) (by show 4 ≤ b'.2 - 3; omega) ?_
    have gD : ∀ y, y < h'.1 → (sd_pu (sd_pu hA (aL 0 (sd_ad G 0) 0)) (aI (n3 0) (-1) (mcs i) (sl i))).2 y = hA.2 y := fun y hy => (pu_ne (by show y ≠ hA.1 + 1; omega)).trans (pu_ne (by omega))
    have gD1 : (sd_pu (sd_pu hA (aL 0 (sd_ad G 0) 0)) (aI (n3 0) (-1) (mcs i) (sl i))).2 hA.1 = some (aL 0 (sd_ad G 0) 0) := (pu_ne (by show hA.1 ≠ hA.1 + 1; omega)).trans (pu_at _ _)
    have gD2 : (sd_pu (sd_pu hA (aL 0 (sd_ad G 0) 0)) (aI (n3 0) (-1) (mcs i) (sl i))).2 (hA.1 + 1) = some (aI (n3 0) (-1) (mcs i) (sl i)) := pu_at _ _
    have keepD : ∀ {y : Nat} {e : sd_E}, sd_look G h' y = some e → y < h'.1 → y ≠ it → sd_look G (sd_pu (sd_pu hA (aL 0 (sd_ad G 0) 0)) (aI (n3 0) (-1) (mcs i) (sl i))) y = some e := fun hy a1 a2 => (look_eq ((gD _ a1).trans (gA _ a2))).trans hy
    refine g_seat (p := hA.1) (nn := tl i) (z := z i) (f0 := fs i) (ca := ca i) (wfH_pu (wfH_pu wA)) rfl (keepD lsl (by omega) (by omega)) (by omega) (fun ht => ?_) x2 (fun k hk => (t3 i k hi hk).1) (fun k hk => ?_) gD1 gD2 (by show 2 * tl i ≤ b'.1 - 1 - 1; omega) (by show 34 * tl i ≤ b'.2 - 3 - 4; omega) (fun h5 m5 r5 f5 cc b5 w5 q1 q2 C5 q3 q4 => ?_)
    · have y1 := t2 i hi ht
      have y2 := ltl y1 (fun _ _ _ _ e => by cases e)
      exact ⟨keepD (keepL y1 y2 (nB y1) ((d3 i hi).2 ht)) (by omega) (by omega), by omega⟩
    · obtain ⟨-, y1, y3, y4⟩ := t3 i k hi hk
      have y2 := ltl y1 (fun _ _ _ _ e => by cases e)
      refine ⟨by omega, keepD (keepL y1 y2 ?_ (nR y1)) (by omega) (by omega), y3, y4⟩
      intro e
      rw [e, sd_look_new L.1] at y1
      cases y1
    · -- the seat's copy stands; it comes into the list of stacks
      have o5 : ∀ y, y < h'.1 → y ≠ it → h5.2 y = h'.2 y := fun y a1 a2 => (q2 y (by omega)).trans ((gD y a1).trans (gA y a2))
      have i5 : h5.2 it = some (aI (n3 (i + 1)) (n3 i) m2 lS) := (q2 it (by omega)).trans ((gD it (by omega)).trans gI)
      have hB05 : h5.2 B0 = some (.inr (2, ob)) := by
        rw [o5 B0 (by omega) (by omega), g2 B0 hB0n hBB (nR (sd_look_new hB0))]
        exact hB0
      have rSlt : rS < h'.1 := by
        rcases g3.2.1 with ⟨y1, -⟩ | ⟨y1, -⟩
        · have := (wfH_z0 w').2
          have := w'.2.1
          omega
        · exact (w'.1 _ _ y1).2
      have rSit : rS ≠ it := by
        intro e
        rcases g3.2.1 with ⟨y1, -⟩ | ⟨y1, -⟩
        · have := (wfH_z0 w').1
          rw [← y1, e, g6] at this
          cases this
        · rw [e, g6] at y1
          cases y1
      have L5 : lsO G h5 B2 mS' rS i capS fS := by
        refine ⟨(o5 B2 (by omega) (by omega)).trans g3.1, ?_, g3.2.2.1, g3.2.2.2⟩
        rcases g3.2.1 with y | ⟨y1, y2, y3⟩
        · exact Or.inl y
        · exact Or.inr ⟨(o5 rS rSlt rSit).trans y1, y2, y3⟩
      have nS : ∀ {y : Nat} {o : Nat × List Value}, h5.2 y = some (.inr o) → y ≠ rS := by
        intro y o hy e
        rcases L5.2.1 with ⟨y1, -⟩ | ⟨y1, -⟩
        · have := (wfH_z0 w5).1
          rw [← y1, ← e, hy] at this
          cases this
        · rw [e, y1] at hy
          cases hy
      obtain ⟨C1, C2, C3, C4⟩ := C5
      rw [wp_bnd, wp_getR (k := 2) (v := B2) (sd_look_new hB05) hob, wp_bnd, (al_rd (sd_look_new L5.1)).2.2.2.1, wp_bnd]
      have okc : ∀ j, j < i → sd_okQ G h5 4 (fS j) = true := by
        intro j hj
        obtain ⟨y1, y2, y3, y4, -⟩ := g7 j hj
        rw [y1]
        unfold sd_okQ
        simp only [sd_look_new ((o5 _ y4.1 (by omega)).trans y2.1)]
        decide
      have okn : sd_okQ G h5 4 (some hA.1) = true := by
        unfold sd_okQ
        simp only [sd_look_new C1.1]
        decide
      refine g_add w5 L5 (by omega) okc okn (by simp only at q3; omega) (by simp only at q4; omega) (fun h6 r6 cap6 f6 b6 w6 L6 k1 k2 k3 k4 k6 k7 k8 => ?_)
      have r6c : (r6 = rS ∨ h5.1 ≤ r6) ∧ cap6 ≤ 60 := by
        rcases k4 with ⟨y1, y2⟩ | ⟨y1, y2, y3, y4⟩
        · exact ⟨Or.inl y2, by omega⟩
        · exact ⟨Or.inr y3, by omega⟩
      refine K1 () h6 b6 ⟨mS' + 1, r6, cap6, f6, (fun j => if j = i then hA.1 else A.1 j, fun j => if j = i then r5 else A.2.1 j, fun j => if j = i then cc else A.2.2.1 j, fun j => if j = i then m5 else A.2.2.2 j), n3 i, w6, by omega, fun y y1 y2 y3 => ?_, L6, r6c.2, by omega, ?_, fun j hj => ?_, ?_, ?_⟩
      · exact (k6 y y2 (by omega) (by omega)).trans ((o5 y (by omega) (by omega)).trans (g2 y y1 y2 y3))
      · exact (k6 it (by omega) (fun e => rSit e.symm) (by omega)).trans i5
      · by_cases cj : j = i
        · subst cj
          have p1 : hA.1 ≠ rS := by omega
          refine ⟨by show f6 j = some (if j = j then hA.1 else A.1 j); rw [if_pos rfl]; exact k2, ?_, by show it < (if j = j then hA.1 else A.1 j); rw [if_pos rfl]; omega, ?_, fun ht => ?_, fun j' hj' => ?_⟩
          · unfold seatC
            simp only [if_true]
            have arr : 1 ≤ tl j → h5.2 r5 = some (aR 10 (fun k => if k < tl j then some (cc k) else none)) := by
              intro ht
              rcases C1.2.1 with ⟨y1, y2, y3⟩ | ⟨y1, y2, y3⟩
              · omega
              · rw [if_neg (by omega)] at y1
                rw [y1]
                congr 2
                congr 4
                congr 1
                funext k
                by_cases ck : k < tl j
                · rw [if_pos ck]
                  exact (C3 k ck).1
                · rw [if_neg ck]
                  exact y3 k (by omega)
            refine ⟨?_, fun ht => ⟨?_, (C2 ht).1⟩, fun k hk => ⟨?_, (C3 k hk).2.1⟩, C4⟩
            · rw [k6 hA.1 (by omega) p1 (by omega), C1.1]
              by_cases ct : tl j = 0
              · rw [if_pos ct]
                rcases C1.2.1 with ⟨y1, y2, y3⟩ | ⟨y1, y2, y3⟩
                · rw [y1]
                · rw [if_pos ct] at y2
                  omega
              · rw [if_neg ct]
            · have := C2 ht
              rw [k6 r5 (by omega) (by omega) (by omega)]
              exact arr ht
            · obtain ⟨-, y2, y3, y4⟩ := C3 k hk
              rw [k6 (cc k) (by omega) (by omega) (by omega)]
              exact y4
          · unfold seatU
            simp only [if_true]
            exact ⟨by omega, fun ht => by have := C2 ht; omega, fun k hk => by have := C3 k hk; omega⟩
          · show r6 ≠ (if j = j then r5 else A.2.1 j)
            rw [if_pos rfl]
            have := C2 ht
            omega
          · obtain ⟨-, -, -, u4, -⟩ := g7 j' hj'
            unfold seatU at u4 ⊢
            simp only [if_neg (show ¬ j' = j by omega), if_true]
            rw [gs]
            exact u4
        · obtain ⟨u1, u2, u3, u4, u5, u6⟩ := g7 j (by omega)
          have e5 : ∀ y, y < h'.1 → it < y → y ≠ rS → h6.2 y = h'.2 y := fun y a1 a2 a3 => (k6 y (by omega) a3 (by omega)).trans (o5 y a1 (by omega))
          have c5 : ∀ {y : Nat} {o : Nat × List Value}, y < h'.1 → it < y → h'.2 y = some (.inr o) → y ≠ rS := fun a1 a2 a3 => nS ((o5 _ a1 (by omega)).trans a3)
          refine ⟨by show f6 j = some (if j = i then hA.1 else A.1 j); rw [if_neg cj]; exact (k1 j (by omega)).trans u1, ?_, by show it < (if j = i then hA.1 else A.1 j); rw [if_neg cj]; exact u3, ?_, fun ht => ?_, fun j' hj' => ?_⟩
          · refine seatC_fr (A := A) u2 (e5 _ u4.1 u3 (c5 u4.1 u3 u2.1)) (fun ht => e5 _ (u4.2.1 ht) (by have := (u2.2.1 ht).2; omega) (fun e => u5 ht e.symm)) (fun k hk => ?_) (if_neg cj) (if_neg cj) (if_neg cj) (if_neg cj)
            have y1 := u2.2.2.1 k hk
            exact e5 _ (u4.2.2 k hk) (by omega) (c5 (u4.2.2 k hk) (by omega) y1.1)
          · unfold seatU at u4 ⊢
            simp only [if_neg cj]
            exact ⟨by omega, fun ht => by have := u4.2.1 ht; omega, fun k hk => by have := u4.2.2 k hk; omega⟩
          · show r6 ≠ (if j = i then r5 else A.2.1 j)
            rw [if_neg cj]
            have := u4.2.1 ht
            have := u5 ht
            omega
          · have u7 := u6 j' hj'
            unfold seatU at u7 ⊢
            simp only [if_neg cj, if_neg (show ¬ j' = i by omega)]
            exact u7
      · simp only at q3 k7
        omega
      · simp only at q4 k8
        omega
end TS
