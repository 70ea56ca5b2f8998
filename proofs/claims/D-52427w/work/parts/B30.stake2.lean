/-! THE PLAIN LAW: taking over, between two named sofas: the theorem -/
section ZT
variable {G : sd_G} {n : Nat} {ρ : Nat → Option Nat} {K : Nat → Option sd_E} {ad F B R : Nat → Nat} {q : Nat → Nat} {x : Nat → Nat → Int32} {mc : Nat → Int32} {em cs : Nat → Bool} {t : TT} {b : Nat × Nat} {Z : Nat → Prop}
/-- the first and the second sofa lie apart -/
def apB (G : sd_G) (n : Nat) (ρ : Nat → Option Nat) (K : Nat → Option sd_E) (F B R : Nat → Nat) (Z : Nat → Prop) : Prop := (∀ k, k ≤ 5 → ρ (B k) = none) ∧ (∀ k, 2 ≤ k → k ≤ 5 → ρ (R k) = none) ∧ (∀ k k', 2 ≤ k → k ≤ 5 → 2 ≤ k' → k' ≤ 5 → F k ≠ B k' ∧ ∀ m r l, im G n ρ K (F k) (aL m r l) → r ≠ R k' ∨ R k' = sd_ad G 0) ∧ ∀ a, Z a → (∀ k, k ≤ 5 → a ≠ B k) ∧ ∀ k, 2 ≤ k → k ≤ 5 → a ≠ R k ∨ R k = sd_ad G 0
theorem s_take {Q : Nat → sd_H → Nat × Nat → Prop} (A : sA G n ρ K ad F q x em cs t) (O : sO G n ρ K Z F q x) (hd : dst (q 20) t) (w : wfH G (hSo G n ρ K ad F q x mc em t)) (H : ahB G (hSo G n ρ K ad F q x mc em t) B R) (D : apB G n ρ K F B R Z) (b1 : 200 ≤ b.1) (b2 : 3400 ≤ b.2)
    (kk : ∀ (h' : sd_H) (b' : Nat × Nat) (ρ' : Nat → Option Nat) (ad' : Nat → Nat) (mc' : Nat → Int32) (em' cs' : Nat → Bool) (R' : Nat → Nat), wfH G h' → n ≤ h'.1 → h' = hSo G h'.1 ρ' h'.2 ad' B q x mc' em' t → sA G h'.1 ρ' h'.2 ad' B q x em' cs' t → sO G h'.1 ρ' h'.2 Z B q x → ad' 0 = B 0 → ad' 3 = B 1 → (∀ k, 2 ≤ k → k ≤ 5 → (∃ m sz cap f, lsO G h' (B k) m (R' k) sz cap f ∧ cap ≤ 60) ∧ ρ' (B k) = none ∧ ρ' (R' k) = none ∧ (R' k = R k ∨ n ≤ R' k)) → (∀ k k', 2 ≤ k → k < k' → k' ≤ 5 → R' k = R' k' → R' k = sd_ad G 0) → (∀ y, y < n → (∀ k, k ≤ 5 → y ≠ B k) → (∀ k, 2 ≤ k → k ≤ 5 → y ≠ R k) → h'.2 y = (hSo G n ρ K ad F q x mc em t).2 y) → (∀ y, ρ' y ≠ none → y = B 0 ∨ y = B 1 ∨ n ≤ y) → b.1 ≤ b'.1 + 200 → b.2 ≤ b'.2 + 3400 → Q (B 0) h' b') : wp (fX3_take G (B 0) (ad 0)) (hSo G n ρ K ad F q x mc em t) b Q := by
  have hP := A.2.2.2.1
  have ok := A.2.2.2.2
  have q8 := hP.1.2
  obtain ⟨D1, D2, D3, D4⟩ := D
  obtain ⟨⟨m2, r2, c2, f2, a1, a2, a3, a4, a5⟩, ⟨m3, r3, c3, f3, e1, e2, e3, e4, e5⟩, ⟨m4, r4, c4, f4, g1, g2, g3, g4, g5⟩, fz, zz⟩ := A.2.2.1
  have O0 := O
  obtain ⟨m5, r5, c5, f5, o1, o2, o3, o4, o5⟩ := O0
  have hn : (hSo G n ρ K ad F q x mc em t).1 = n := rfl
  have nam : ∀ {i y : Nat}, sV (q 20) em cs i → ρ y = none → ad i ≠ y := by
    intro i y hi hy e
    have := A.1.1 i hi
    rw [e, hy] at this
    cases this
  have l0 : sd_look G (hSo G n ρ K ad F q x mc em t) (ad 0) = some (.inr (2, [.int (n3 (q 21)), .int (n3 (q 20)), .ref (F 2), .ref (F 3), .ref (F 4), .ref (F 5), .ref (ad 3), .int (t.1 4), .int (t.1 0), .int (t.1 1), .int (t.1 2), .int (t.1 3)])) := s_look A (Or.inl rfl)
  have l3 : sd_look G (hSo G n ρ K ad F q x mc em t) (ad 3) = some (.inl (0, 24, .inl (fun f => cnv (t.2.2.2.2 f)))) := s_look A (Or.inr (Or.inl rfl))
  have emf : ∀ s, s < q 20 → 1 ≤ t.2.1 s → em s = false := by
    intro s hs ht
    cases h : em s with
    | false => rfl
    | true =>
      have := A.2.1.2 s hs h
      omega
  have r2c : ∀ k', 2 ≤ k' → k' ≤ 5 → r2 ≠ R k' := by
    intro k' k2 k5 e
    rcases (D3 2 k' (by omega) (by omega) k2 k5).2 _ _ _ a1 with d | d
    · exact d e
    · have l2 := im_lk (ad := ad) (F := F) (q := q) (x := x) (mc := mc) (em := em) (t := t) a2
      obtain ⟨f, hf⟩ := wfH_z w
      rw [e, d, hf] at l2
      cases l2
      have := hP.1.1
      omega
  refine g_take (ns := q 20) (B := B) (R := R) (F := F) (w1 := ad 0) (se := ad 3) (m2 := m2) (r2 := r2) (c2 := c2) (f2 := f2) (nk := n3 (q 21)) (v7 := t.1 4) (v8 := t.1 0) (v9 := t.1 1) (v10 := t.1 2) (v11 := t.1 3) (e0 := fun f => cnv (t.2.2.2.2 f)) (sl := fun s => ad (10 + s)) (sr := fun s => if em s = true then sd_ad G 0 else ad (20 + s)) (tl := t.2.1) (mcs := mc) (fs := fun s k => if k < t.2.1 s then some (ad (100 + t.2.2.1 (10 * s + k))) else none) (ca := fun s k => ad (100 + t.2.2.1 (10 * s + k))) (z := fun s k => (n3 (t.2.2.1 (10 * s + k) % 10), x 30 (t.2.2.1 (10 * s + k)), x 31 (t.2.2.1 (10 * s + k)), t.2.2.2.1 (t.2.2.1 (10 * s + k)))) (m1 := fun k => if k = 3 then m3 else if k = 4 then m4 else m5) (r1 := fun k => if k = 3 then r3 else if k = 4 then r4 else r5) (k1 := fun k => if k = 3 then q 22 else if k = 4 then q 26 else q 32) (c1 := fun k => if k = 3 then c3 else if k = 4 then c4 else c5) (f1 := fun k => if k = 3 then f3 else if k = 4 then f4 else f5) q8 w H l0 (nam (Or.inl rfl) (D1 0 (by omega))) l3 (nam (Or.inr (Or.inl rfl)) (D1 1 (by omega))) (im_lk a1) (im_lk a2) a3 a4 a5 (fun s hs => ⟨s_list A hs, ok.2.2.1 s hs⟩) (fun s hs ht => ?_) (fun s k hs hk => ?_) (fun k k3 k5 => ?_) (fun k k' k2 k5 k2' k5' => (D3 k k' k2 k5 k2' k5').1) r2c (fun s hs => ⟨fun k' k2 k5 => nam (sV10 hs) (D1 k' (by omega)), fun ht k' k2 k5 => ?_⟩) (fun k k' k3 k5 k2' k5' => ?_) b1 b2 (fun h' b' R' A' mF capF fF w' s' fr c0 c1 cl cf2 cfk cR seats bb1 bb2 => ?_)
  · have he := emf s hs ht
    simp only [he, Bool.false_eq_true, ↓reduceIte]
    exact s_arr A hs he
  · have hc80 := ok.2.2.2.1 s k hs hk
    exact ⟨if_pos hk, s_cu A hs hk, (hP.2.2.2.2.2.2 _ hc80).2, ok.2.2.2.2.1 _ hc80⟩
  · have hk : k = 3 ∨ k = 4 ∨ k = 5 := by omega
    rcases hk with rfl | rfl | rfl
    · refine ⟨im_lk e1, im_lk e2, e3, e4, by show q 22 ≤ 30; have := hP.2.2.1; omega, fun j hj => ?_⟩
      obtain ⟨y, y1, y2⟩ := e5 j hj
      exact ⟨y, 10, _, y1, im_lk y2, by decide, by decide, by decide⟩
    · refine ⟨im_lk g1, im_lk g2, g3, g4, by show q 26 ≤ 30; have := hP.2.2.2.1; omega, fun j hj => ?_⟩
      obtain ⟨y, y1, y2⟩ := g5 j hj
      exact ⟨y, 11, _, y1, im_lk y2, by decide, by decide, by decide⟩
    · refine ⟨im_lk o1, im_lk o2, o3, o4, by show q 32 ≤ 30; have := hP.2.2.2.2.1; omega, fun j hj => ?_⟩
      obtain ⟨y, cr, se, te, jj, y1, y2, -⟩ := o5 j hj
      exact ⟨y, 17, _, y1, im_lk y2.1, by decide, by decide, by decide⟩
  · have he := emf s hs ht
    simp only [he, Bool.false_eq_true, ↓reduceIte]
    exact nam (sV20 hs he) (D2 k' k2 k5)
  · have hk : k = 3 ∨ k = 4 ∨ k = 5 := by omega
    rcases hk with rfl | rfl | rfl
    · exact (D3 3 k' (by omega) (by omega) k2' k5').2 _ _ _ e1
    · exact (D3 4 k' (by omega) (by omega) k2' k5').2 _ _ _ g1
    · exact (D3 5 k' (by omega) (by omega) k2' k5').2 _ _ _ o1
  · obtain ⟨⟨i0, i1, y7, y8, y9, y10, y11, H1⟩, ⟨eB, H2, H2'⟩, H3, H4⟩ := H
    have tl1 : ∀ s, s < q 20 → (decide (t.2.1 s = 0)) = false → 1 ≤ t.2.1 s := by
      intro s hs h
      have := of_decide_eq_false h
      omega
    have hc : ∀ i, sV (q 20) (fun s => decide (t.2.1 s = 0)) (csF (q 20) t) i → h'.2 (adF (q 20) t B A' i) = some (cS (adF (q 20) t B A') B q x (sd_ad G 0) A'.2.2.2 (fun s => decide (t.2.1 s = 0)) t i) := by
      refine sV_ind ?_ ?_ ?_ ?_ ?_
      · exact c0
      · obtain ⟨e, c11, c12, c13⟩ := c1
        have ee : e = fun f => cnv (t.2.2.2.2 f) := by
          funext j
          by_cases cj : j < 24
          · exact c12 j cj
          · rw [c13 j (by omega), (ok.2.2.2.2.2.1 j).2 (by have := hP.2.2.2.1; omega)]
            rfl
        rw [ee] at c11
        exact c11
      · intro s hs
        have := (seats s hs).1.1
        rw [adF_10 (by omega), cS_10 (by omega), adF_20 (by omega), this]
        by_cases ct : t.2.1 s = 0
        · rw [if_pos ct, if_pos (decide_eq_true ct)]
        · rw [if_neg ct, if_neg (by rw [decide_eq_false ct]; decide)]
      · intro s hs he
        have := ((seats s hs).1.2.1 (tl1 s hs he)).1
        rw [adF_20 (by omega), cS_20 (by omega), this]
        congr 2
        congr 4
        congr 1
        funext k
        by_cases ck : k < t.2.1 s
        · rw [if_pos ck, if_pos ck, adF_100, (cuF_at hd hs ck).2]
        · rw [if_neg ck, if_neg ck]
      · intro c hc8 hcs
        obtain ⟨⟨s, k⟩, p1, p2, p3⟩ := csF_t hcs
        simp only at p1 p2 p3
        subst p3
        rw [adF_100, (cuF_at hd p1 p2).2, cS_100]
        exact ((seats s p1).1.2.2.1 k p2).1
    have ord : ∀ s s', s < s' → s' < q 20 → seatU A' s (t.2.1 s) (A'.1 s') := fun s s' h1 h2 => (seats s' h2).2.2.2.2 s h1
    have i1' : ∀ s s', s < q 20 → s' < q 20 → adF (q 20) t B A' (10 + s) = adF (q 20) t B A' (10 + s') → s = s' := by
      intro s s' hs hs' e
      rw [adF_10 (by omega), adF_10 (by omega)] at e
      refine Classical.byContradiction fun hne => ?_
      by_cases c : s < s'
      · have := (ord s s' c hs').1
        omega
      · have := (ord s' s (by omega) hs).1
        omega
    have i2' : ∀ s s', s < q 20 → s' < q 20 → (fun s => decide (t.2.1 s = 0)) s = false → (fun s => decide (t.2.1 s = 0)) s' = false → adF (q 20) t B A' (20 + s) = adF (q 20) t B A' (20 + s') → s = s' := by
      intro s s' hs hs' he he' e
      rw [adF_20 (by omega), adF_20 (by omega)] at e
      have u1 := ((seats s hs).1.2.1 (tl1 s hs he)).2
      have u2 := ((seats s' hs').1.2.1 (tl1 s' hs' he')).2
      refine Classical.byContradiction fun hne => ?_
      by_cases c : s < s'
      · have := (ord s s' c hs').2.1 (tl1 s hs he)
        omega
      · have := (ord s' s (by omega) hs).2.1 (tl1 s' hs' he')
        omega
    have i3' : ∀ c c', c < 80 → c' < 80 → csF (q 20) t c = true → csF (q 20) t c' = true → adF (q 20) t B A' (100 + c) = adF (q 20) t B A' (100 + c') → c = c' := by
      intro c c' _ _ hcs hcs' e
      obtain ⟨⟨s, k⟩, p1, p2, p3⟩ := csF_t hcs
      obtain ⟨⟨s', k'⟩, p1', p2', p3'⟩ := csF_t hcs'
      simp only at p1 p2 p3 p1' p2' p3'
      subst p3
      subst p3'
      rw [adF_100, adF_100, (cuF_at hd p1 p2).2, (cuF_at hd p1' p2').2] at e
      have u1 := ((seats s p1).1.2.2.1 k p2).2
      have u2 := ((seats s' p1').1.2.2.1 k' p2').2
      by_cases c : s < s'
      · have := (ord s s' c p1').2.2 k p2
        omega
      · by_cases c2 : s' < s
        · have := (ord s' s c2 p1).2.2 k' p2'
          omega
        · have es : s = s' := by omega
          subst es
          by_cases c3 : k < k'
          · have := (seats s p1).1.2.2.2 k k' c3 p2'
            omega
          · by_cases c4 : k' < k
            · have := (seats s p1).1.2.2.2 k' k c4 p2
              omega
            · rw [show k = k' by omega]
    obtain ⟨S1, S2⟩ := mkS w' q8 hc i1' i2' i3'
    have rn : ∀ y, y < n → y ≠ B 0 → y ≠ B 1 → rhoC (adF (q 20) t B A') (sV (q 20) (fun s => decide (t.2.1 s = 0)) (csF (q 20) t)) y = none := by
      intro y hy y0 y1
      refine rhoC_none (sV_ind (fun e => y0 e.symm) (fun e => y1 e.symm) ?_ ?_ ?_)
      · intro s hs e
        rw [adF_10 (by omega)] at e
        have := (seats s hs).2.1
        omega
      · intro s hs he e
        rw [adF_20 (by omega)] at e
        have := (seats s hs).2.1
        have := ((seats s hs).1.2.1 (tl1 s hs he)).2
        omega
      · intro c _ hcs e
        obtain ⟨⟨s, k⟩, p1, p2, p3⟩ := csF_t hcs
        simp only at p1 p2 p3
        subst p3
        rw [adF_100, (cuF_at hd p1 p2).2] at e
        have := (seats s p1).2.1
        have := ((seats s p1).1.2.2.1 k p2).2
        omega
    have zne := (wfH_z0 w').1
    have rR : ∀ k, 2 ≤ k → k ≤ 5 → rhoC (adF (q 20) t B A') (sV (q 20) (fun s => decide (t.2.1 s = 0)) (csF (q 20) t)) (R' k) = none := by
      intro k k2 k5
      obtain ⟨L, -, -⟩ := cl k k2 k5
      have key : ∀ i, sV (q 20) (fun s => decide (t.2.1 s = 0)) (csF (q 20) t) i → (∀ c f, cS (adF (q 20) t B A') B q x (sd_ad G 0) A'.2.2.2 (fun s => decide (t.2.1 s = 0)) t i ≠ aR c f) → adF (q 20) t B A' i ≠ R' k := by
        intro i hi hty e
        have hcell := hc i hi
        rcases L.2.1 with ⟨z1, -⟩ | ⟨z1, -⟩
        · rw [e, z1, zne] at hcell
          cases hcell
        · rw [e, z1] at hcell
          exact hty _ _ (Option.some.inj hcell).symm
      refine rhoC_none (fun i hi => sV_ind (P := fun i => sV (q 20) (fun s => decide (t.2.1 s = 0)) (csF (q 20) t) i → adF (q 20) t B A' i ≠ R' k) (fun h => key 0 h (fun _ _ e => by cases e)) (fun h => key 3 h (fun _ _ e => by cases e)) ?_ ?_ ?_ i hi hi)
      · intro s hs h
        exact key _ h (fun c f e => by rw [cS_10 (by omega)] at e; cases e)
      · intro s hs he h e
        rw [adF_20 (by omega)] at e
        exact (seats s hs).2.2.2.1 (tl1 s hs he) k k2 k5 e.symm
      · intro c _ _ h
        exact key _ h (fun c f e => by rw [cS_100] at e; cases e)
    have imI : ∀ {y : Nat} {e : sd_E}, rhoC (adF (q 20) t B A') (sV (q 20) (fun s => decide (t.2.1 s = 0)) (csF (q 20) t)) y = none → sd_look G h' y = some e → im G h'.1 (rhoC (adF (q 20) t B A') (sV (q 20) (fun s => decide (t.2.1 s = 0)) (csF (q 20) t))) h'.2 y e := fun h1 h2 => ⟨h1, wfH_lt w' h2, h2⟩
    have Blt : ∀ k, 2 ≤ k → k ≤ 5 → B k < n ∧ B k ≠ B 0 ∧ B k ≠ B 1 := by
      intro k k2 k5
      obtain ⟨m, sz, cap, f, L, -⟩ := H3 k k2 k5
      refine ⟨(w.1 _ _ L.1).2, fun e => ?_, fun e => ?_⟩
      · have := L.1
        rw [e, H1] at this
        cases this
      · have := L.1
        rw [e, H2] at this
        cases this
    have rB : ∀ k, 2 ≤ k → k ≤ 5 → rhoC (adF (q 20) t B A') (sV (q 20) (fun s => decide (t.2.1 s = 0)) (csF (q 20) t)) (B k) = none := fun k k2 k5 => rn _ (Blt k k2 k5).1 (Blt k k2 k5).2.1 (Blt k k2 k5).2.2
    -- objects of the source that are no lists
    have kp : ∀ {y d : Nat} {fs : List Value}, sd_look G (hSo G n ρ K ad F q x mc em t) y = some (.inr (d, fs)) → d ≠ 41 → d ≠ 2 → im G h'.1 (rhoC (adF (q 20) t B A') (sV (q 20) (fun s => decide (t.2.1 s = 0)) (csF (q 20) t))) h'.2 y (.inr (d, fs)) := by
      intro y d fs hy d1 d2
      have yl : y < n := wfH_lt w hy
      have y0 : y ≠ B 0 := by
        intro e
        rw [e, sd_look_new H1] at hy
        cases hy
        exact d2 rfl
      have y1 : y ≠ B 1 := by
        intro e
        rw [e, sd_look_new H2] at hy
        cases hy
      refine imI (rn y yl y0 y1) ((look_eq (fr y yl (fun k hk => ?_) (fun k k2 k5 e => ?_))).trans hy)
      · by_cases k0 : k = 0
        · rw [k0]; exact y0
        · by_cases k1 : k = 1
          · rw [k1]; exact y1
          · obtain ⟨m, sz, cap, f, L, -⟩ := H3 k (by omega) hk
            intro e
            rw [e, sd_look_new L.1] at hy
            cases hy
            exact d1 rfl
      · obtain ⟨m, sz, cap, f, L, -⟩ := H3 k k2 k5
        rcases L.2.1 with ⟨z1, -⟩ | ⟨z1, -⟩
        · obtain ⟨f, hf⟩ := wfH_z w
          rw [e, z1, hf] at hy
          cases hy
        · rw [e, sd_look_new z1] at hy
          cases hy
    have zlt := (wfH_z0 w).2
    have z0n : sd_ad G 0 < n ∧ sd_ad G 0 ≠ B 0 ∧ sd_ad G 0 ≠ B 1 := by
      refine ⟨by have := w.2.1; rw [hn] at this; omega, fun e => ?_, fun e => ?_⟩
      · have := (w.1 _ _ H1).1
        omega
      · have := (w.1 _ _ H2).1
        omega
    have lst : ∀ k sz, 2 ≤ k → k ≤ 5 → (if k = 2 then q 20 else if k = 3 then q 22 else if k = 4 then q 26 else q 32) = sz → ∃ m r c g, im G h'.1 (rhoC (adF (q 20) t B A') (sV (q 20) (fun s => decide (t.2.1 s = 0)) (csF (q 20) t))) h'.2 (B k) (aL m r sz) ∧ im G h'.1 (rhoC (adF (q 20) t B A') (sV (q 20) (fun s => decide (t.2.1 s = 0)) (csF (q 20) t))) h'.2 r (aR c g) ∧ sz ≤ c ∧ c ≤ 1000 ∧ ∀ j, j < sz → g j = fF k j := by
      intro k sz k2 k5 hsz
      obtain ⟨L, l1, l2⟩ := cl k k2 k5
      have L : lsO G h' (B k) (mF k) (R' k) sz (capF k) (fF k) := by
        rw [← hsz]
        exact L
      obtain ⟨g, hg, hgf⟩ := lsO_arr L w'
      exact ⟨mF k, R' k, capF k, g, imI (rB k k2 k5) (sd_look_new L.1), imI (rR k k2 k5) hg, L.2.2.1, by omega, hgf⟩
    refine kk h' b' _ (adF (q 20) t B A') A'.2.2.2 (fun s => decide (t.2.1 s = 0)) (csF (q 20) t) R' w' s' S2 ⟨S1, ⟨fun s k hs hk => (cuF_at (A := A') hd hs hk).1, fun s hs he => of_decide_eq_true he⟩, ⟨?_, ?_, ?_, ?_⟩, hP, ok⟩ ?_ rfl rfl (fun k k2 k5 => ?_) cR fr (fun y hy => ?_) bb1 bb2
    · obtain ⟨m, r, c, g, l1, l2, l3, l4, l5⟩ := lst 2 (q 20) (by omega) (by omega) rfl
      exact ⟨m, r, c, g, l1, l2, l3, l4, fun i hi => by rw [l5 i hi, cf2 i hi, adF_10 (by omega)]⟩
    · obtain ⟨m, r, c, g, l1, l2, l3, l4, l5⟩ := lst 3 (q 22) (by omega) (by omega) rfl
      refine ⟨m, r, c, g, l1, l2, l3, l4, fun i hi => ?_⟩
      obtain ⟨y, y1, y2⟩ := e5 i hi
      exact ⟨y, (l5 i hi).trans ((cfk 3 (by omega) (by omega) i hi).trans y1), kp (im_lk y2) (by decide) (by decide)⟩
    · obtain ⟨m, r, c, g, l1, l2, l3, l4, l5⟩ := lst 4 (q 26) (by omega) (by omega) rfl
      refine ⟨m, r, c, g, l1, l2, l3, l4, fun i hi => ?_⟩
      obtain ⟨y, y1, y2⟩ := g5 i hi
      exact ⟨y, (l5 i hi).trans ((cfk 4 (by omega) (by omega) i hi).trans y1), kp (im_lk y2) (by decide) (by decide)⟩
    · obtain ⟨f, hf⟩ := wfH_z w'
      exact ⟨f, imI (rn _ z0n.1 z0n.2.1 z0n.2.2) hf⟩
    · refine sO_mo (fun a e ha => ?_) O (fun m r c f p1 p2 p3 p4 => ?_)
      · obtain ⟨ha, hz⟩ := ha
        obtain ⟨d1, d2⟩ := D4 a hz
        have hl := im_lk (ad := ad) (F := F) (q := q) (x := x) (mc := mc) (em := em) (t := t) ha
        refine ⟨imI (rn a ha.2.1 (d1 0 (by omega)) (d1 1 (by omega))) ?_, hz⟩
        have : h'.2 a = (hSo G n ρ K ad F q x mc em t).2 a := by
          by_cases ca : a = sd_ad G 0
          · rw [ca, zne, (wfH_z0 w).1]
          · refine fr a ha.2.1 d1 (fun k k2 k5 e => ?_)
            rcases d2 k k2 k5 with dd | dd
            · exact dd e
            · exact ca (e.trans dd)
        exact (look_eq this).trans hl
      · obtain ⟨m', r', c', g, l1, l2, l3, l4, l5⟩ := lst 5 (q 32) (by omega) (by omega) rfl
        have u1 := (im_lk (ad := ad) (F := F) (q := q) (x := x) (mc := mc) (em := em) (t := t) p1).symm.trans (im_lk o1)
        cases u1
        have u2 := (im_lk (ad := ad) (F := F) (q := q) (x := x) (mc := mc) (em := em) (t := t) p2).symm.trans (im_lk o2)
        cases u2
        exact ⟨m', r', c', g, l1, l2, l3, l4, fun k hk => (l5 k hk).trans (cfk 5 (by omega) (by omega) k hk)⟩
    · obtain ⟨L, l1, l2⟩ := cl k k2 k5
      exact ⟨⟨_, _, _, _, L, l1⟩, rB k k2 k5, rR k k2 k5, l2⟩
    · by_cases y0 : y = B 0
      · exact Or.inl y0
      · by_cases y1 : y = B 1
        · exact Or.inr (Or.inl y1)
        · refine Or.inr (Or.inr (Nat.le_of_not_lt fun c => hy (rn y c y0 y1)))
end ZT
