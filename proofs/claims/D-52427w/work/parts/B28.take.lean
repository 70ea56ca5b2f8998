/-! THE PLAIN LAW: a second sofa takes all over that the first has -/
theorem lsO_fr {G : sd_G} {h h' : sd_H} {a r sz cap : Nat} {mc : Int32} {f : Nat → Option Nat} (L : lsO G h a mc r sz cap f) (e1 : h'.2 a = h.2 a) (e2 : r ≠ sd_ad G 0 → h'.2 r = h.2 r) (w : wfH G h) : lsO G h' a mc r sz cap f := by
  obtain ⟨L1, L2, L3⟩ := L
  refine ⟨e1.trans L1, ?_, L3⟩
  rcases L2 with y | ⟨y1, y2⟩
  · exact Or.inl y
  · refine Or.inr ⟨(e2 ?_).trans y1, y2⟩
    intro e
    rw [e, (wfH_z0 w).1] at y1
    cases y1
/-- the second sofa between two uses: obj, ends, four lists -/
def ahB (G : sd_G) (h : sd_H) (B R : Nat → Nat) : Prop := (∃ i0 i1 v7 v8 v9 v10 v11, h.2 (B 0) = some (.inr (2, [.int i0, .int i1, .ref (B 2), .ref (B 3), .ref (B 4), .ref (B 5), .ref (B 1), .int v7, .int v8, .int v9, .int v10, .int v11]))) ∧ (∃ e, h.2 (B 1) = some (.inl (0, 24, .inl e)) ∧ ∀ j, 24 ≤ j → e j = 0) ∧ (∀ k, 2 ≤ k → k ≤ 5 → ∃ m sz cap f, lsO G h (B k) m (R k) sz cap f ∧ cap ≤ 60) ∧ ∀ k k', 2 ≤ k → k < k' → k' ≤ 5 → B k ≠ B k' ∧ (R k = R k' → R k = sd_ad G 0)
section TK
variable {G : sd_G} {h : sd_H} {b : Nat × Nat} {ns w1 r2 c2 se : Nat} {m2 nk v7 v8 v9 v10 v11 : Int32} {f2 : Nat → Option Nat} {sl sr tl B R F : Nat → Nat} {mcs : Nat → Int32} {fs : Nat → Nat → Option Nat} {ca : Nat → Nat → Nat} {z : Nat → Nat → CuZ} {m1 : Nat → Int32} {r1 k1 c1 : Nat → Nat} {f1 : Nat → Nat → Option Nat} {e0 : Nat → Int32}
theorem g_take {Q : Nat → sd_H → Nat × Nat → Prop} (hn8 : ns ≤ 8) (w : wfH G h) (H : ahB G h B R)
    (o2 : sd_look G h w1 = some (.inr (2, [.int nk, .int (n3 ns), .ref (F 2), .ref (F 3), .ref (F 4), .ref (F 5), .ref se, .int v7, .int v8, .int v9, .int v10, .int v11]))) (o3 : w1 ≠ B 0)
    (se1 : sd_look G h se = some (.inl (0, 24, .inl e0))) (se2 : se ≠ B 1)
    (s1 : sd_look G h (F 2) = some (aL m2 r2 ns)) (s2 : sd_look G h r2 = some (aR c2 f2)) (s3 : ns ≤ c2) (s4 : c2 ≤ 1000) (s5 : ∀ s, s < ns → f2 s = some (sl s))
    (t1 : ∀ s, s < ns → sd_look G h (sl s) = some (aL (mcs s) (sr s) (tl s)) ∧ tl s ≤ 10) (t2 : ∀ s, s < ns → 1 ≤ tl s → sd_look G h (sr s) = some (aR 10 (fs s)))
    (t3 : ∀ s k, s < ns → k < tl s → fs s k = some (ca s k) ∧ sd_look G h (ca s k) = some (cuC (z s k)) ∧ ((z s k).2.2.1 = 0 ∨ (z s k).2.2.1 = 1) ∧ ((z s k).2.2.2 = 0 ∨ (z s k).2.2.2 = 1))
    (u1 : ∀ k, 3 ≤ k → k ≤ 5 → sd_look G h (F k) = some (aL (m1 k) (r1 k) (k1 k)) ∧ sd_look G h (r1 k) = some (aR (c1 k) (f1 k)) ∧ k1 k ≤ c1 k ∧ c1 k ≤ 1000 ∧ k1 k ≤ 30 ∧ ∀ j, j < k1 k → ∃ y d fs, f1 k j = some y ∧ sd_look G h y = some (.inr (d, fs)) ∧ sd_may 4 d = true ∧ d ≠ 41 ∧ d ≠ 2)
    (d1 : ∀ k k', 2 ≤ k → k ≤ 5 → 2 ≤ k' → k' ≤ 5 → F k ≠ B k') (d2 : ∀ k', 2 ≤ k' → k' ≤ 5 → r2 ≠ R k') (d3 : ∀ s, s < ns → (∀ k', 2 ≤ k' → k' ≤ 5 → sl s ≠ B k') ∧ (1 ≤ tl s → ∀ k', 2 ≤ k' → k' ≤ 5 → sr s ≠ R k'))
    (d4 : ∀ k k', 3 ≤ k → k ≤ 5 → 2 ≤ k' → k' ≤ 5 → r1 k ≠ R k' ∨ R k' = sd_ad G 0)
    (b1 : 200 ≤ b.1) (b2 : 3400 ≤ b.2)
    (kk : ∀ h' b' (R' : Nat → Nat) (A : TkA) (mF : Nat → Int32) (capF : Nat → Nat) (fF : Nat → Nat → Option Nat), wfH G h' → h.1 ≤ h'.1 → (∀ y, y < h.1 → (∀ k, k ≤ 5 → y ≠ B k) → (∀ k, 2 ≤ k → k ≤ 5 → y ≠ R k) → h'.2 y = h.2 y) →
      h'.2 (B 0) = some (.inr (2, [.int nk, .int (n3 ns), .ref (B 2), .ref (B 3), .ref (B 4), .ref (B 5), .ref (B 1), .int v7, .int v8, .int v9, .int v10, .int v11])) →
      (∃ e, h'.2 (B 1) = some (.inl (0, 24, .inl e)) ∧ (∀ j, j < 24 → e j = e0 j) ∧ ∀ j, 24 ≤ j → e j = 0) →
      (∀ k, 2 ≤ k → k ≤ 5 → lsO G h' (B k) (mF k) (R' k) (if k = 2 then ns else k1 k) (capF k) (fF k) ∧ capF k ≤ 60 ∧ (R' k = R k ∨ h.1 ≤ R' k)) →
      (∀ j, j < ns → fF 2 j = some (A.1 j)) → (∀ k, 3 ≤ k → k ≤ 5 → ∀ j, j < k1 k → fF k j = f1 k j) →
      (∀ k k', 2 ≤ k → k < k' → k' ≤ 5 → R' k = R' k' → R' k = sd_ad G 0) →
      (∀ j, j < ns → seatC G h' A j (tl j) (z j) ∧ h.1 ≤ A.1 j ∧ seatU A j (tl j) h'.1 ∧ (1 ≤ tl j → ∀ k, 2 ≤ k → k ≤ 5 → R' k ≠ A.2.1 j) ∧ ∀ j', j' < j → seatU A j' (tl j') (A.1 j)) →
      b.1 ≤ b'.1 + 200 → b.2 ≤ b'.2 + 3400 → Q (B 0) h' b') : wp (fX3_take G (B 0) w1) h b Q := by
  obtain ⟨⟨i0, i1, y7, y8, y9, y10, y11, H1⟩, ⟨eB, H2, H2'⟩, H3, H4⟩ := H
  obtain ⟨mB2, sz2, cap2, fB2, LB2, cB2⟩ := H3 2 (by omega) (by omega)
  obtain ⟨mB3, sz3, cap3, fB3, LB3, cB3⟩ := H3 3 (by omega) (by omega)
  obtain ⟨mB4, sz4, cap4, fB4, LB4, cB4⟩ := H3 4 (by omega) (by omega)
  obtain ⟨mB5, sz5, cap5, fB5, LB5, cB5⟩ := H3 5 (by omega) (by omega)
  have zz := wfH_z w
  -- cells differ by kind
  have nRo : ∀ {k y : Nat} {o : Nat × List Value}, 2 ≤ k → k ≤ 5 → sd_look G h y = some (.inr o) → y ≠ R k := by
    intro k y o k2 k5 hy e
    obtain ⟨m, sz, cap, f, L, -⟩ := H3 k k2 k5
    rcases L.2.1 with ⟨y1, -⟩ | ⟨y1, -⟩
    · obtain ⟨f, hf⟩ := zz
      rw [e, y1, hf] at hy
      cases hy
    · rw [e, sd_look_new y1] at hy
      cases hy
  have nRi : ∀ {k y n : Nat} {g : Nat → Int32}, 2 ≤ k → k ≤ 5 → sd_look G h y = some (.inl (0, n, .inl g)) → y ≠ R k := by
    intro k y n g k2 k5 hy e
    obtain ⟨m, sz, cap, f, L, -⟩ := H3 k k2 k5
    rcases L.2.1 with ⟨y1, -⟩ | ⟨y1, -⟩
    · obtain ⟨f, hf⟩ := zz
      rw [e, y1, hf] at hy
      cases hy
    · rw [e, sd_look_new y1] at hy
      cases hy
  have nBa : ∀ {k y : Nat} {e : Nat × vp_A}, 2 ≤ k → k ≤ 5 → sd_look G h y = some (.inl e) → y ≠ B k := by
    intro k y e k2 k5 hy he
    obtain ⟨m, sz, cap, f, L, -⟩ := H3 k k2 k5
    rw [he, sd_look_new L.1] at hy
    cases hy
  have nBo : ∀ {k y d : Nat} {o : List Value}, 2 ≤ k → k ≤ 5 → sd_look G h y = some (.inr (d, o)) → d ≠ 41 → y ≠ B k := by
    intro k y d o k2 k5 hy hd he
    obtain ⟨m, sz, cap, f, L, -⟩ := H3 k k2 k5
    rw [he, sd_look_new L.1] at hy
    cases hy
    exact hd rfl
  have nB0 : ∀ {y : Nat} {e : sd_E}, sd_look G h y = some e → (∀ o, e ≠ .inr (2, o)) → y ≠ B 0 := by
    intro y e hy he e2
    rw [e2, sd_look_new H1] at hy
    exact he _ (Option.some.inj hy).symm
  have nB1o : ∀ {y : Nat} {o : Nat × List Value}, sd_look G h y = some (.inr o) → y ≠ B 1 := by
    intro y o hy e2
    rw [e2, sd_look_new H2] at hy
    cases hy
  have nB1r : ∀ {y n : Nat} {f : Nat → Option Nat}, sd_look G h y = some (aR n f) → y ≠ B 1 := by
    intro y n f hy e2
    rw [e2, sd_look_new H2] at hy
    cases hy
  have B02 : ∀ k, 2 ≤ k → k ≤ 5 → B 0 ≠ B k := fun k k2 k5 => nBo k2 k5 (sd_look_new H1) (by decide)
  have B0R : ∀ k, 2 ≤ k → k ≤ 5 → B 0 ≠ R k := fun k k2 k5 => nRo k2 k5 (sd_look_new H1)
  have B12 : ∀ k, 2 ≤ k → k ≤ 5 → B 1 ≠ B k := fun k k2 k5 => nBa k2 k5 (sd_look_new H2)
  have B1R : ∀ k, 2 ≤ k → k ≤ 5 → B 1 ≠ R k := fun k k2 k5 => nRi k2 k5 (sd_look_new H2)
  have BR : ∀ k k', 2 ≤ k → k ≤ 5 → 2 ≤ k' → k' ≤ 5 → B k ≠ R k' := by
    intro k k' k2 k5 k2' k5'
    obtain ⟨m, sz, cap, f, L, -⟩ := H3 k k2 k5
    exact nRo k2' k5' (sd_look_new L.1)
  have B01 : B 0 ≠ B 1 := by
    intro e
    rw [e, H2] at H1
    cases H1
  have Bne : ∀ k k', 2 ≤ k → k ≤ 5 → 2 ≤ k' → k' ≤ 5 → k ≠ k' → B k ≠ B k' ∧ (R k = R k' → R k = sd_ad G 0) := by
    intro k k' k2 k5 k2' k5' hne
    by_cases c : k < k'
    · exact H4 k k' k2 c k5'
    · obtain ⟨a1, a2⟩ := H4 k' k k2' (by omega) k5
      exact ⟨fun e => a1 e.symm, fun e => e.trans (a2 e.symm)⟩
  have Rlt : ∀ k, 2 ≤ k → k ≤ 5 → R k < h.1 := by
    intro k k2 k5
    obtain ⟨m, sz, cap, f, L, -⟩ := H3 k k2 k5
    rcases L.2.1 with ⟨y1, -⟩ | ⟨y1, -⟩
    · have := (wfH_z0 w).2
      have := w.2.1
      omega
    · exact (w.1 _ _ y1).2
  have Blt : ∀ k, k ≤ 5 → B k < h.1 := by
    intro k k5
    by_cases c0 : k = 0
    · rw [c0]; exact (w.1 _ _ H1).2
    · by_cases c1 : k = 1
      · rw [c1]; exact (w.1 _ _ H2).2
      · obtain ⟨m, sz, cap, f, L, -⟩ := H3 k (by omega) k5
        exact (w.1 _ _ L.1).2
  have zn := (wfH_z0 w).1
  -- what belongs to the source is touched by nothing
  have clean : ∀ {h' : sd_H} {y : Nat}, wfH G h' → (∀ k, 2 ≤ k → k ≤ 5 → y ≠ R k ∨ R k = sd_ad G 0) → ((∀ k, 2 ≤ k → k ≤ 5 → y ≠ R k) → h'.2 y = h.2 y) → h'.2 y = h.2 y := by
    intro h' y w' hr hh
    by_cases c : y = sd_ad G 0
    · rw [c, zn, (wfH_z0 w').1]
    · refine hh (fun k k2 k5 e => ?_)
      rcases hr k k2 k5 with d | d
      · exact d e
      · exact c (e.trans d)
  -- the two numbers
  have o2A : ∀ e : sd_E, sd_look G (sd_up h (B 0) e) w1 = some (.inr (2, [.int nk, .int (n3 ns), .ref (F 2), .ref (F 3), .ref (F 4), .ref (F 5), .ref se, .int v7, .int v8, .int v9, .int v10, .int v11])) := fun e => (look_eq (up_ne o3)).trans o2
  unfold fX3_take
  rw [wp_bnd, wp_getI (k := 1) (v := n3 ns) o2 rfl, wp_bnd, g_put H1 (Nat.le_of_ble_eq_true rfl) rfl rfl, wp_bnd, wp_getI (k := 0) (v := nk) (o2A _) rfl, wp_bnd, g_put (up_at _ _ _) (Nat.le_of_ble_eq_true rfl) rfl rfl, up_up]
  have wA : wfH G (sd_up h (B 0) (.inr (2, ([Value.int i0, .int i1, .ref (B 2), .ref (B 3), .ref (B 4), .ref (B 5), .ref (B 1), .int y7, .int y8, .int y9, .int y10, .int y11].set 1 (.int (n3 ns))).set 0 (.int nk)))) := wfH_up w H1
  have A0 : (sd_up h (B 0) (.inr (2, ([Value.int i0, .int i1, .ref (B 2), .ref (B 3), .ref (B 4), .ref (B 5), .ref (B 1), .int y7, .int y8, .int y9, .int y10, .int y11].set 1 (.int (n3 ns))).set 0 (.int nk)))).2 (B 0) = some (.inr (2, [.int nk, .int (n3 ns), .ref (B 2), .ref (B 3), .ref (B 4), .ref (B 5), .ref (B 1), .int y7, .int y8, .int y9, .int y10, .int y11])) := up_at _ _ _
  have A1 : ∀ y, y ≠ B 0 → (sd_up h (B 0) (.inr (2, ([Value.int i0, .int i1, .ref (B 2), .ref (B 3), .ref (B 4), .ref (B 5), .ref (B 1), .int y7, .int y8, .int y9, .int y10, .int y11].set 1 (.int (n3 ns))).set 0 (.int nk)))).2 y = h.2 y := fun y hy => up_ne hy
  have A2 : (sd_up h (B 0) (.inr (2, ([Value.int i0, .int i1, .ref (B 2), .ref (B 3), .ref (B 4), .ref (B 5), .ref (B 1), .int y7, .int y8, .int y9, .int y10, .int y11].set 1 (.int (n3 ns))).set 0 (.int nk)))).1 = h.1 := rfl
  generalize sd_up h (B 0) (.inr (2, ([Value.int i0, .int i1, .ref (B 2), .ref (B 3), .ref (B 4), .ref (B 5), .ref (B 1), .int y7, .int y8, .int y9, .int y10, .int y11].set 1 (.int (n3 ns))).set 0 (.int nk))) = hA at wA A0 A1 A2 ⊢
  have LA2 : lsO G hA (B 2) mB2 (R 2) sz2 cap2 fB2 := lsO_fr LB2 (A1 _ (fun e => B02 2 (by omega) (by omega) e.symm)) (fun _ => A1 _ (fun e => B0R 2 (by omega) (by omega) e.symm)) w
  rw [wp_bnd, wp_getR (k := 2) (v := B 2) (sd_look_new A0) rfl, wp_bnd, (al_rd (sd_look_new LA2.1)).2.2.2.1, wp_bnd]
  refine g_clear wA LA2 (fun h2 w2 L2 e2 fr2 => ?_)
  have E2 : ∀ y, y ≠ B 0 → y ≠ B 2 → y ≠ R 2 → h2.2 y = h.2 y := fun y a1 a2 a3 => (fr2 y a2 a3).trans (A1 y a1)
  have B0h2 : h2.2 (B 0) = some (.inr (2, [.int nk, .int (n3 ns), .ref (B 2), .ref (B 3), .ref (B 4), .ref (B 5), .ref (B 1), .int y7, .int y8, .int y9, .int y10, .int y11])) := (fr2 _ (B02 2 (by omega) (by omega)) (B0R 2 (by omega) (by omega))).trans A0
  have n41 : ∀ {m : Int32} {r n : Nat} (o : List Value), aL m r n ≠ .inr (2, o) := fun o e => by cases e
  have nar : ∀ {n : Nat} {f : Nat → Option Nat} (o : List Value), aR n f ≠ .inr (2, o) := fun o e => by cases e
  have ncu : ∀ {c : CuZ} (o : List Value), cuC c ≠ .inr (2, o) := fun o e => by cases e
  have w1B : ∀ k, 2 ≤ k → k ≤ 5 → w1 ≠ B k := fun k k2 k5 => nBo k2 k5 o2 (by decide)
  have lw1 : sd_look G h2 w1 = some (.inr (2, [.int nk, .int (n3 ns), .ref (F 2), .ref (F 3), .ref (F 4), .ref (F 5), .ref se, .int v7, .int v8, .int v9, .int v10, .int v11])) := (look_eq (E2 w1 o3 (w1B 2 (by omega) (by omega)) (nRo (by omega) (by omega) o2))).trans o2
  have lF2 : sd_look G h2 (F 2) = some (aL m2 r2 ns) := (look_eq (E2 _ (nB0 s1 n41) (d1 2 2 (by omega) (by omega) (by omega) (by omega)) (nRo (by omega) (by omega) s1))).trans s1
  rw [wp_bnd, wp_getR (k := 2) (v := F 2) lw1 rfl, wp_bnd, (al_rd lF2).2.2.2.1, wp_bnd]
  refine g_iter w2 lF2 (by omega) (by omega) ?_
  have P3 : ∀ y, y < h2.1 → (sd_pu h2 (aI (n3 0) (-1) m2 (F 2))).2 y = h2.2 y := fun y hy => pu_ne (by omega)
  have lk3 : ∀ {y : Nat} {e : sd_E}, sd_look G h y = some e → y ≠ B 0 → y ≠ B 2 → y ≠ R 2 → sd_look G (sd_pu h2 (aI (n3 0) (-1) m2 (F 2))) y = some e := fun hy a1 a2 a3 => (look_eq ((P3 _ (by have := wfH_lt w hy; omega)).trans (E2 _ a1 a2 a3))).trans hy
  have L3 : lsO G (sd_pu h2 (aI (n3 0) (-1) m2 (F 2))) (B 2) (mB2 + 1) (R 2) 0 cap2 (fun _ => none) := lsO_fr L2 (P3 _ (by have := Blt 2 (by omega); omega)) (fun _ => P3 _ (by have := Rlt 2 (by omega) (by omega); omega)) w2
  refine g_stacks (B2 := B 2) (R2 := R 2) (n0 := h2.1) (lS := F 2) (sl := sl) (sr := sr) (tl := tl) (z := z) (ca := ca) (fs := fs) (mcs := mcs) hn8 (wfH_pu w2) rfl rfl (pu_at _ _) L3 cB2 ((P3 _ (by have := Blt 0 (by omega); omega)).trans B0h2) rfl (lk3 s1 (nB0 s1 n41) (d1 2 2 (by omega) (by omega) (by omega) (by omega)) (nRo (by omega) (by omega) s1)) (lk3 s2 (nB0 s2 nar) (nBa (by omega) (by omega) s2) (d2 2 (by omega) (by omega))) s3 s4 s5 (fun s hs => ?_) (fun s hs ht => ?_) (fun s k hs hk => ?_) (d1 2 2 (by omega) (by omega) (by omega) (by omega)) ⟨d2 2 (by omega) (by omega), by have := wfH_lt w s2; omega⟩ (fun s hs => ⟨(d3 s hs).1 2 (by omega) (by omega), fun ht => (d3 s hs).2 ht 2 (by omega) (by omega)⟩) (by show 23 * ns ≤ b.1 - 1; omega) (by show 373 * ns ≤ b.2 - 4; omega) (fun h4 b4 mS rS capS fS A w4 p1 p2 L4 p3 p4 p5 p6 p7 => ?_)
  · obtain ⟨y1, y2⟩ := t1 s hs
    exact ⟨lk3 y1 (nB0 y1 n41) ((d3 s hs).1 2 (by omega) (by omega)) (nRo (by omega) (by omega) y1), y2⟩
  · have y1 := t2 s hs ht
    exact lk3 y1 (nB0 y1 nar) (nBa (by omega) (by omega) y1) ((d3 s hs).2 ht 2 (by omega) (by omega))
  · obtain ⟨y1, y2, y3⟩ := t3 s k hs hk
    exact ⟨y1, lk3 y2 (nB0 y2 ncu) (nBo (by omega) (by omega) y2 (by decide)) (nRo (by omega) (by omega) y2), y3⟩
  have E4 : ∀ y, y < h.1 → y ≠ B 0 → y ≠ B 2 → y ≠ R 2 → h4.2 y = h.2 y := fun y a0 a1 a2 a3 => (p2 y (by omega) a2 a3).trans ((P3 y (by omega)).trans (E2 y a1 a2 a3))
  have B0h4 : h4.2 (B 0) = some (.inr (2, [.int nk, .int (n3 ns), .ref (B 2), .ref (B 3), .ref (B 4), .ref (B 5), .ref (B 1), .int y7, .int y8, .int y9, .int y10, .int y11])) := by
    have := Blt 0 (by omega)
    exact (p2 _ (by omega) (B02 2 (by omega) (by omega)) (B0R 2 (by omega) (by omega))).trans ((P3 _ (by omega)).trans B0h2)
  have S : ∀ k, 3 ≤ k → k ≤ 5 → ∀ h', wfH G h' → (∀ y, y < h.1 → (∀ k, k ≤ 5 → y ≠ B k) → (∀ k, 2 ≤ k → k ≤ 5 → y ≠ R k) → h'.2 y = h.2 y) → sd_look G h' w1 = some (.inr (2, [.int nk, .int (n3 ns), .ref (F 2), .ref (F 3), .ref (F 4), .ref (F 5), .ref se, .int v7, .int v8, .int v9, .int v10, .int v11])) ∧ sd_look G h' (F k) = some (aL (m1 k) (r1 k) (k1 k)) ∧ sd_look G h' (r1 k) = some (aR (c1 k) (f1 k)) ∧ ∀ j, j < k1 k → ∃ y d fs, f1 k j = some y ∧ sd_look G h' y = some (.inr (d, fs)) ∧ sd_may 4 d = true ∧ d ≠ 41 := by
    intro k k3 k5 h' w' hh
    obtain ⟨a1, a2, a3, a4, a5, a6⟩ := u1 k k3 k5
    have allB : ∀ {y : Nat}, y ≠ B 0 → y ≠ B 1 → (∀ k, 2 ≤ k → k ≤ 5 → y ≠ B k) → ∀ k, k ≤ 5 → y ≠ B k := by
      intro y e0 e1 e2 k hk
      by_cases c0 : k = 0
      · rw [c0]; exact e0
      · by_cases c1 : k = 1
        · rw [c1]; exact e1
        · exact e2 k (by omega) hk
    refine ⟨(look_eq (hh w1 (wfH_lt w o2) (allB o3 (nB1o o2) w1B) (fun k k2 k5 => nRo k2 k5 o2))).trans o2, (look_eq (hh _ (wfH_lt w a1) (allB (nB0 a1 n41) (nB1o a1) (fun k' k2 k5' => d1 k k' (by omega) k5 k2 k5')) (fun k k2 k5 => nRo k2 k5 a1))).trans a1, (look_eq (clean w' (fun k' k2 k5' => d4 k k' k3 k5 k2 k5') (fun hr => hh _ (wfH_lt w a2) (allB (nB0 a2 nar) (nB1r a2) (fun k k2 k5 => nBa k2 k5 a2)) hr))).trans a2, fun j hj => ?_⟩
    obtain ⟨y, d, fs, z1, z2, z3, z4, z5⟩ := a6 j hj
    exact ⟨y, d, fs, z1, (look_eq (hh y (wfH_lt w z2) (allB (nB0 z2 (fun o e => by cases e; exact z5 rfl)) (nB1o z2) (fun k k2 k5 => nBo k2 k5 z2 z4)) (fun k k2 k5 => nRo k2 k5 z2))).trans z2, z3, z4⟩
  have h1l4 : h.1 ≤ h4.1 := by omega
  have Lk4 : ∀ k m sz cap f, 3 ≤ k → k ≤ 5 → lsO G h (B k) m (R k) sz cap f → lsO G h4 (B k) m (R k) sz cap f := by
    intro k m sz cap f k3 k5 L
    refine lsO_fr L (E4 _ (Blt k (by omega)) (fun e => B02 k (by omega) k5 e.symm) (fun e => (Bne k 2 (by omega) k5 (by omega) (by omega) (by omega)).1 e) (BR k 2 (by omega) k5 (by omega) (by omega))) (fun hr => E4 _ (Rlt k (by omega) k5) (fun e => B0R k (by omega) k5 e.symm) (fun e => BR 2 k (by omega) (by omega) (by omega) k5 e.symm) (fun e => hr ((Bne k 2 (by omega) k5 (by omega) (by omega) (by omega)).2 e))) w
  have E4' : ∀ y, y < h.1 → (∀ k, k ≤ 5 → y ≠ B k) → (∀ k, 2 ≤ k → k ≤ 5 → y ≠ R k) → h4.2 y = h.2 y := fun y a0 a1 a2 => E4 y a0 (a1 0 (by omega)) (a1 2 (by omega)) (a2 2 (by omega) (by omega))
  -- the empires
  obtain ⟨x3a, x3b, x3c, x3d⟩ := S 3 (by omega) (by omega) h4 w4 E4'
  obtain ⟨-, -, x3e, x3f, x3g, -⟩ := u1 3 (by omega) (by omega)
  unfold tkR
  refine g_take1 (k := 3) (B := B 3) (S := F 3) w4 B0h4 rfl x3a rfl (Lk4 3 _ _ _ _ (by omega) (by omega) LB3) cB3 x3b x3c x3e x3f x3g (d1 3 3 (by omega) (by omega) (by omega) (by omega)) (d4 3 3 (by omega) (by omega) (by omega) (by omega)) x3d (by simp only at p6; omega) (by simp only at p7; omega) (fun h5 R3 c3 f3 b5 w5 M3 g3a g3b g3c g3d g3e g3f g3g => ?_)
  have B0h5 := (g3e _ (B02 3 (by omega) (by omega)) (B0R 3 (by omega) (by omega)) (by have := Blt 0 (by omega); omega)).trans B0h4
  have E5' : ∀ y, y < h.1 → (∀ k, k ≤ 5 → y ≠ B k) → (∀ k, 2 ≤ k → k ≤ 5 → y ≠ R k) → h5.2 y = h.2 y := fun y a0 a1 a2 => (g3e y (a1 3 (by omega)) (a2 3 (by omega) (by omega)) (by omega)).trans (E4' y a0 a1 a2)
  obtain ⟨x4a, x4b, x4c, x4d⟩ := S 4 (by omega) (by omega) h5 w5 E5'
  obtain ⟨-, -, x4e, x4f, x4g, -⟩ := u1 4 (by omega) (by omega)
  have Lk5 : ∀ k m sz cap f, 4 ≤ k → k ≤ 5 → lsO G h4 (B k) m (R k) sz cap f → lsO G h5 (B k) m (R k) sz cap f := by
    intro k m sz cap f k3 k5 L
    have := Blt k (by omega)
    have := Rlt k (by omega) k5
    refine lsO_fr L (g3e _ (fun e => (Bne k 3 (by omega) k5 (by omega) (by omega) (by omega)).1 e) (BR k 3 (by omega) k5 (by omega) (by omega)) (by omega)) (fun hr => g3e _ (fun e => BR 3 k (by omega) (by omega) (by omega) k5 e.symm) (fun e => hr ((Bne k 3 (by omega) k5 (by omega) (by omega) (by omega)).2 e)) (by omega)) w4
  refine g_take1 (k := 4) (B := B 4) (S := F 4) w5 B0h5 rfl x4a rfl (Lk5 4 _ _ _ _ (by omega) (by omega) (Lk4 4 _ _ _ _ (by omega) (by omega) LB4)) cB4 x4b x4c x4e x4f x4g (d1 4 4 (by omega) (by omega) (by omega) (by omega)) (d4 4 4 (by omega) (by omega) (by omega) (by omega)) x4d (by simp only at p6; omega) (by simp only at p7; omega) (fun h6 R4 c4 f4 b6 w6 M4 g4a g4b g4c g4d g4e g4f g4g => ?_)
  have B0h6 := (g4e _ (B02 4 (by omega) (by omega)) (B0R 4 (by omega) (by omega)) (by have := Blt 0 (by omega); omega)).trans B0h5
  have E6' : ∀ y, y < h.1 → (∀ k, k ≤ 5 → y ≠ B k) → (∀ k, 2 ≤ k → k ≤ 5 → y ≠ R k) → h6.2 y = h.2 y := fun y a0 a1 a2 => (g4e y (a1 4 (by omega)) (a2 4 (by omega) (by omega)) (by omega)).trans (E5' y a0 a1 a2)
  obtain ⟨x5a, x5b, x5c, x5d⟩ := S 5 (by omega) (by omega) h6 w6 E6'
  obtain ⟨-, -, x5e, x5f, x5g, -⟩ := u1 5 (by omega) (by omega)
  have L56 : lsO G h6 (B 5) mB5 (R 5) sz5 cap5 fB5 := by
    have := Blt 5 (by omega)
    have := Rlt 5 (by omega) (by omega)
    refine lsO_fr (Lk5 5 _ _ _ _ (by omega) (by omega) (Lk4 5 _ _ _ _ (by omega) (by omega) LB5)) (g4e _ (fun e => (Bne 5 4 (by omega) (by omega) (by omega) (by omega) (by omega)).1 e) (BR 5 4 (by omega) (by omega) (by omega) (by omega)) (by omega)) (fun hr => g4e _ (fun e => BR 4 5 (by omega) (by omega) (by omega) (by omega) e.symm) (fun e => hr ((Bne 5 4 (by omega) (by omega) (by omega) (by omega) (by omega)).2 e)) (by omega)) w5
  refine g_take1 (k := 5) (B := B 5) (S := F 5) w6 B0h6 rfl x5a rfl L56 cB5 x5b x5c x5e x5f x5g (d1 5 5 (by omega) (by omega) (by omega) (by omega)) (d4 5 5 (by omega) (by omega) (by omega) (by omega)) x5d (by simp only at p6; omega) (by simp only at p7; omega) (fun h7 R5 c5 f5 b7 w7 M5 g5a g5b g5c g5d g5e g5f g5g => ?_)
  have B0h7 := (g5e _ (B02 5 (by omega) (by omega)) (B0R 5 (by omega) (by omega)) (by have := Blt 0 (by omega); omega)).trans B0h6
  have E7' : ∀ y, y < h.1 → (∀ k, k ≤ 5 → y ≠ B k) → (∀ k, 2 ≤ k → k ≤ 5 → y ≠ R k) → h7.2 y = h.2 y := fun y a0 a1 a2 => (g5e y (a1 5 (by omega)) (a2 5 (by omega) (by omega)) (by omega)).trans (E6' y a0 a1 a2)
  have lw7 := (S 3 (by omega) (by omega) h7 w7 E7').1
  have l1B := Blt 1 (by omega)
  have B1h7 : h7.2 (B 1) = some (.inl (0, 24, .inl eB)) := (g5e _ (B12 5 (by omega) (by omega)) (B1R 5 (by omega) (by omega)) (by omega)).trans ((g4e _ (B12 4 (by omega) (by omega)) (B1R 4 (by omega) (by omega)) (by omega)).trans ((g3e _ (B12 3 (by omega) (by omega)) (B1R 3 (by omega) (by omega)) (by omega)).trans ((E4 _ l1B (fun e => B01 e.symm) (B12 2 (by omega) (by omega)) (B1R 2 (by omega) (by omega))).trans H2)))
  have lse7 : sd_look G h7 se = some (.inl (0, 24, .inl e0)) := by
    refine (look_eq (E7' se (wfH_lt w se1) (fun k hk => ?_) (fun k k2 k5 => nRi k2 k5 se1))).trans se1
    by_cases c0 : k = 0
    · rw [c0]; exact nB0 se1 (fun o e => by cases e)
    · by_cases c1 : k = 1
      · rw [c1]; exact se2
      · exact nBa (by omega) hk se1
  rw [wp_bnd, wp_getR (k := 6) (v := se) lw7 rfl, wp_bnd, wp_getR (k := 6) (v := B 1) (sd_look_new B0h7) rfl, wp_bnd, show (24 : Int32) = n3 24 from rfl, wp_cpI0 (n0 := 24) (n1 := 24) lse7 B1h7 (by omega) (by omega) (by omega)]
  have w8 : wfH G (sd_up h7 (B 1) (.inl (0, 24, .inl (va_cpy e0 eB 0 0 24)))) := wfH_up w7 B1h7
  have F8 : ∀ y, y ≠ B 1 → (sd_up h7 (B 1) (.inl (0, 24, .inl (va_cpy e0 eB 0 0 24)))).2 y = h7.2 y := fun y hy => up_ne hy
  have F81 : (sd_up h7 (B 1) (.inl (0, 24, .inl (va_cpy e0 eB 0 0 24)))).2 (B 1) = some (.inl (0, 24, .inl (va_cpy e0 eB 0 0 24))) := up_at _ _ _
  have F8s : (sd_up h7 (B 1) (.inl (0, 24, .inl (va_cpy e0 eB 0 0 24)))).1 = h7.1 := rfl
  generalize sd_up h7 (B 1) (.inl (0, 24, .inl (va_cpy e0 eB 0 0 24))) = h8 at w8 F8 F81 F8s ⊢
  have lw8 := (look_eq (G := G) (F8 w1 (nB1o o2))).trans lw7
  have lw9 : ∀ e : sd_E, sd_look G (sd_up h8 (B 0) e) w1 = some (.inr (2, [.int nk, .int (n3 ns), .ref (F 2), .ref (F 3), .ref (F 4), .ref (F 5), .ref se, .int v7, .int v8, .int v9, .int v10, .int v11])) := fun e => (look_eq (up_ne o3)).trans lw8
  have B0h8 := (F8 _ B01).trans B0h7
  rw [wp_bnd, wp_getI (k := 7) (v := v7) lw8 rfl, wp_bnd, g_put B0h8 (Nat.le_of_ble_eq_true rfl) rfl rfl, wp_bnd, wp_getI (k := 8) (v := v8) (lw9 _) rfl, wp_bnd, g_put (up_at _ _ _) (Nat.le_of_ble_eq_true rfl) rfl rfl, up_up, wp_bnd, wp_getI (k := 9) (v := v9) (lw9 _) rfl, wp_bnd, g_put (up_at _ _ _) (Nat.le_of_ble_eq_true rfl) rfl rfl, up_up, wp_bnd, wp_getI (k := 10) (v := v10) (lw9 _) rfl, wp_bnd, g_put (up_at _ _ _) (Nat.le_of_ble_eq_true rfl) rfl rfl, up_up, wp_bnd, wp_getI (k := 11) (v := v11) (lw9 _) rfl, wp_bnd, g_put (up_at _ _ _) (Nat.le_of_ble_eq_true rfl) rfl rfl, up_up, wp_ret]
  show Q (B 0) (sd_up h8 (B 0) (.inr (2, [.int nk, .int (n3 ns), .ref (B 2), .ref (B 3), .ref (B 4), .ref (B 5), .ref (B 1), .int v7, .int v8, .int v9, .int v10, .int v11]))) b7
  have mv : ∀ (hX hY : sd_H) (k k' : Nat) (m : Int32) (r sz cap : Nat) (f : Nat → Option Nat), 2 ≤ k → k ≤ 5 → 2 ≤ k' → k' ≤ 5 → k ≠ k' → wfH G hX → h.1 ≤ hX.1 → lsO G hX (B k) m r sz cap f → (r = R k ∨ h.1 ≤ r) → (∀ y, y ≠ B k' → y ≠ R k' → y < hX.1 → hY.2 y = hX.2 y) → lsO G hY (B k) m r sz cap f := by
    intro hX hY k k' m r sz cap f k2 k5 k2' k5' hne wX hX1 LX hr fr
    have b1 := Blt k (by omega)
    have b2 := Blt k' (by omega)
    have b3 := Rlt k' k2' k5'
    refine lsO_fr LX (fr _ (Bne k k' k2 k5 k2' k5' hne).1 (BR k k' k2 k5 k2' k5') (by omega)) (fun hc => ?_) wX
    have rl : r < hX.1 := by
      rcases LX.2.1 with ⟨y1, -⟩ | ⟨y1, -⟩
      · exact absurd y1 hc
      · exact (wX.1 _ _ y1).2
    rcases hr with e | e
    · refine fr r ?_ ?_ rl
      · rw [e]
        exact fun e2 => BR k' k k2' k5' k2 k5 e2.symm
      · intro e2
        rw [e] at e2 hc
        exact hc ((Bne k k' k2 k5 k2' k5' hne).2 e2)
    · exact fr r (by omega) (by omega) rl
  have mvF : ∀ (k : Nat) (m : Int32) (r sz cap : Nat) (f : Nat → Option Nat), 2 ≤ k → k ≤ 5 → lsO G h7 (B k) m r sz cap f → (r = R k ∨ h.1 ≤ r) → lsO G (sd_up h8 (B 0) (.inr (2, [.int nk, .int (n3 ns), .ref (B 2), .ref (B 3), .ref (B 4), .ref (B 5), .ref (B 1), .int v7, .int v8, .int v9, .int v10, .int v11]))) (B k) m r sz cap f := by
    intro k m r sz cap f k2 k5 L7 hr
    have a0 := Blt 0 (by omega)
    refine lsO_fr L7 ((up_ne (fun e => B02 k k2 k5 e.symm)).trans (F8 _ (fun e => B12 k k2 k5 e.symm))) (fun hc => ?_) w7
    rcases hr with e | e
    · rw [e]
      exact (up_ne (fun e => B0R k k2 k5 e.symm)).trans (F8 _ (fun e => B1R k k2 k5 e.symm))
    · exact (up_ne (by omega)).trans (F8 _ (by omega))
  have rSl : rS < h4.1 := by
    rcases L4.2.1 with ⟨y1, -⟩ | ⟨y1, -⟩
    · have := (wfH_z0 w4).2
      have := w4.2.1
      omega
    · exact (w4.1 _ _ y1).2
  have R3l : R3 < h5.1 := by
    rcases M3.2.1 with ⟨y1, -⟩ | ⟨y1, -⟩
    · have := (wfH_z0 w5).2
      have := w5.2.1
      omega
    · exact (w5.1 _ _ y1).2
  have R4l : R4 < h6.1 := by
    rcases M4.2.1 with ⟨y1, -⟩ | ⟨y1, -⟩
    · have := (wfH_z0 w6).2
      have := w6.2.1
      omega
    · exact (w6.1 _ _ y1).2
  have hrS : rS = R 2 ∨ h.1 ≤ rS := by omega
  have hR3 : R3 = R 3 ∨ h.1 ≤ R3 := by omega
  have hR4 : R4 = R 4 ∨ h.1 ≤ R4 := by omega
  have hR5 : R5 = R 5 ∨ h.1 ≤ R5 := by omega
  have N2 := mvF 2 _ _ _ _ _ (by omega) (by omega) (mv h6 h7 2 5 _ _ _ _ _ (by omega) (by omega) (by omega) (by omega) (by omega) w6 (by omega) (mv h5 h6 2 4 _ _ _ _ _ (by omega) (by omega) (by omega) (by omega) (by omega) w5 (by omega) (mv h4 h5 2 3 _ _ _ _ _ (by omega) (by omega) (by omega) (by omega) (by omega) w4 (by omega) L4 hrS g3e) hrS g4e) hrS g5e) hrS
  have N3 := mvF 3 _ _ _ _ _ (by omega) (by omega) (mv h6 h7 3 5 _ _ _ _ _ (by omega) (by omega) (by omega) (by omega) (by omega) w6 (by omega) (mv h5 h6 3 4 _ _ _ _ _ (by omega) (by omega) (by omega) (by omega) (by omega) w5 (by omega) M3 hR3 g4e) hR3 g5e) hR3
  have N4 := mvF 4 _ _ _ _ _ (by omega) (by omega) (mv h6 h7 4 5 _ _ _ _ _ (by omega) (by omega) (by omega) (by omega) (by omega) w6 (by omega) M4 hR4 g5e) hR4
  have N5 := mvF 5 _ _ _ _ _ (by omega) (by omega) M5 hR5
  have Bl := fun k (hk : k ≤ 5) => Blt k hk
  have B0' := Bl 0 (by omega)
  have B1' := Bl 1 (by omega)
  have B3' := Bl 3 (by omega)
  have B4' := Bl 4 (by omega)
  have B5' := Bl 5 (by omega)
  have Q2' := Rlt 2 (by omega) (by omega)
  have Q3' := Rlt 3 (by omega) (by omega)
  have Q4' := Rlt 4 (by omega) (by omega)
  have Q5' := Rlt 5 (by omega) (by omega)
  have EE : ∀ y, h.1 ≤ y → y < h4.1 → (sd_up h8 (B 0) (.inr (2, [.int nk, .int (n3 ns), .ref (B 2), .ref (B 3), .ref (B 4), .ref (B 5), .ref (B 1), .int v7, .int v8, .int v9, .int v10, .int v11]))).2 y = h4.2 y := fun y a1 a2 => (up_ne (by omega)).trans ((F8 y (by omega)).trans ((g5e y (by omega) (by omega) (by omega)).trans ((g4e y (by omega) (by omega) (by omega)).trans (g3e y (by omega) (by omega) (by omega)))))
  refine kk _ b7 (fun k => if k = 2 then rS else if k = 3 then R3 else if k = 4 then R4 else R5) A (fun k => if k = 2 then mS else if k = 3 then mB3 + 1 + 1 else if k = 4 then mB4 + 1 + 1 else mB5 + 1 + 1) (fun k => if k = 2 then capS else if k = 3 then c3 else if k = 4 then c4 else c5) (fun k => if k = 2 then fS else if k = 3 then f3 else if k = 4 then f4 else f5) (wfH_up w8 B0h8) (by show h.1 ≤ h8.1; omega) (fun y a0 a1 a2 => (up_ne (a1 0 (by omega))).trans ((F8 y (a1 1 (by omega))).trans (E7' y a0 a1 a2))) (up_at _ _ _) ⟨va_cpy e0 eB 0 0 24, (up_ne (fun e => B01 e.symm)).trans F81, fun j hj => ?_, fun j hj => ?_⟩ (fun k k2 k5 => ?_) (fun j hj => ?_) (fun k k3 k5 j hj => ?_) (fun k k' k2 kk' k5' => ?_) (fun j hj => ?_) (by simp only at p6; omega) (by simp only at p7; omega)
  · unfold va_cpy
    rw [if_pos (by omega), show 0 + (j - 0) = j by omega]
  · unfold va_cpy
    rw [if_neg (by omega)]
    exact H2' j hj
  · have hk : k = 2 ∨ k = 3 ∨ k = 4 ∨ k = 5 := by omega
    rcases hk with rfl | rfl | rfl | rfl
    · exact ⟨N2, p3, hrS⟩
    · exact ⟨N3, g3a, hR3⟩
    · exact ⟨N4, g4a, hR4⟩
    · exact ⟨N5, g5a, hR5⟩
  · exact (p5 j hj).1
  · have hk : k = 3 ∨ k = 4 ∨ k = 5 := by omega
    rcases hk with rfl | rfl | rfl
    · exact g3b j hj
    · exact g4b j hj
    · exact g5b j hj
  · have hk : (k = 2 ∧ k' = 3) ∨ (k = 2 ∧ k' = 4) ∨ (k = 2 ∧ k' = 5) ∨ (k = 3 ∧ k' = 4) ∨ (k = 3 ∧ k' = 5) ∨ (k = 4 ∧ k' = 5) := by omega
    rcases hk with ⟨rfl, rfl⟩ | ⟨rfl, rfl⟩ | ⟨rfl, rfl⟩ | ⟨rfl, rfl⟩ | ⟨rfl, rfl⟩ | ⟨rfl, rfl⟩
    · show rS = R3 → rS = sd_ad G 0
      intro e
      have := (Bne 2 3 (by omega) (by omega) (by omega) (by omega) (by omega)).2
      by_cases c : rS = R 2
      · by_cases c' : R3 = R 3
        · rw [c]; exact this (by rw [← c, e, c'])
        · omega
      · omega
    · show rS = R4 → rS = sd_ad G 0
      intro e
      have := (Bne 2 4 (by omega) (by omega) (by omega) (by omega) (by omega)).2
      by_cases c : rS = R 2
      · by_cases c' : R4 = R 4
        · rw [c]; exact this (by rw [← c, e, c'])
        · omega
      · omega
    · show rS = R5 → rS = sd_ad G 0
      intro e
      have := (Bne 2 5 (by omega) (by omega) (by omega) (by omega) (by omega)).2
      by_cases c : rS = R 2
      · by_cases c' : R5 = R 5
        · rw [c]; exact this (by rw [← c, e, c'])
        · omega
      · omega
    · show R3 = R4 → R3 = sd_ad G 0
      intro e
      have := (Bne 3 4 (by omega) (by omega) (by omega) (by omega) (by omega)).2
      by_cases c : R3 = R 3
      · by_cases c' : R4 = R 4
        · rw [c]; exact this (by rw [← c, e, c'])
        · omega
      · omega
    · show R3 = R5 → R3 = sd_ad G 0
      intro e
      have := (Bne 3 5 (by omega) (by omega) (by omega) (by omega) (by omega)).2
      by_cases c : R3 = R 3
      · by_cases c' : R5 = R 5
        · rw [c]; exact this (by rw [← c, e, c'])
        · omega
      · omega
    · show R4 = R5 → R4 = sd_ad G 0
      intro e
      have := (Bne 4 5 (by omega) (by omega) (by omega) (by omega) (by omega)).2
      by_cases c : R4 = R 4
      · by_cases c' : R5 = R 5
        · rw [c]; exact this (by rw [← c, e, c'])
        · omega
      · omega
  · obtain ⟨-, a2, a3, a4, a5, a6⟩ := p5 j hj
    refine ⟨seatC_fr (A := A) a2 (EE _ (by omega) a4.1) (fun ht => EE _ (by have := (a2.2.1 ht).2; omega) (a4.2.1 ht)) (fun k hk => EE _ (by have := (a2.2.2.1 k hk).2; omega) (a4.2.2 k hk)) rfl rfl rfl rfl, by omega, ⟨by have := a4.1; show A.1 j < h8.1; omega, fun ht => by have := a4.2.1 ht; show A.2.1 j < h8.1; omega, fun k hk => by have := a4.2.2 k hk; show A.2.2.1 j k < h8.1; omega⟩, fun ht k k2 k5 => ?_, a6⟩
    have q1 := a4.2.1 ht
    have q2 := (a2.2.1 ht).2
    have q3 := a5 ht
    have hk : k = 2 ∨ k = 3 ∨ k = 4 ∨ k = 5 := by omega
    rcases hk with rfl | rfl | rfl | rfl
    · exact q3
    · show R3 ≠ A.2.1 j
      omega
    · show R4 ≠ A.2.1 j
      omega
    · show R5 ≠ A.2.1 j
      omega
end TK
