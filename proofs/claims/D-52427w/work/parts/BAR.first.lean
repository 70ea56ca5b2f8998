/-! THE PLAIN LAW: the first sofa -/
section FST
variable {G : sd_G} {h2 h' : sd_H} {so E0 o4 E4 cx tp bt : Nat} {F F' ad : Nat → Nat} {mcs bs : Nat → Int32}
theorem okP_I : okP q0S xI := okP_0 (x := fun _ _ => 0) (fun j j1 j2 => by
  have e : xP (fun _ _ => 0) j = if j = 30 then nofd 80 else fun _ => 0 := if_neg (by omega)
  rw [e]
  rfl)
theorem CI_first (w' : wfH G h') (w2 : wfH G h2) (kp : ∀ z e, h2.2 z = some e → (∀ fs, e ≠ .inr (0, fs)) → h'.2 z = some e) (hso : h2.2 so = some (aSo 6 4 F E0)) (hE0 : h2.2 E0 = some (.inl (0, 24, .inl (fun _ => 0)))) (lF : ∀ k, 3 ≤ k → k ≤ 5 → h2.2 (F k) = some (aL 0 (sd_ad G 0) 0)) (nF : ∀ k, 2 ≤ k → k ≤ 5 → ∀ s, s < 4 → ad (10 + s) ≠ F k) (St : STK xI ad mcs 4 6 (F 2) h2) (p3 : ∀ s s', s < s' → s' < 4 → ad (10 + s) < ad (10 + s') ∧ ad (20 + s) < ad (20 + s')) (x10 : ∀ s s' k k', s < 4 → s' < 4 → k < 6 → k' < 6 → ad (100 + (10 * s + k)) = ad (100 + (10 * s' + k')) → s = s' ∧ k = k') (N : nSo G o4 F' E4 h') (hn : h2.1 ≤ o4)
    (c1 : h'.2 tp = some (.inr (1, [.ref bt, .int (n3 0)]))) (c2 : h'.2 bt = some (.inl (2, 2000, .inl bs))) (c3 : h'.2 cx = some (.inr (0, [.ref tp, .int (-1), .ref so, .ref o4]))) :
    CI G cx tp bt so E0 (fun k => if k = 0 then o4 else if k = 1 then E4 else F' k) (fun _ => False) q0S xI (-1) 0 bs h' (t0S 4 6) := by
  have so' : h'.2 so = some (aSo 6 4 F E0) := kp _ _ hso (fun _ q => by cases q)
  have E' : h'.2 E0 = some (.inl (0, 24, .inl (fun _ => 0))) := kp _ _ hE0 (fun _ q => by cases q)
  have kL : ∀ {z : Nat} {mc : Int32} {r n : Nat}, h2.2 z = some (aL mc r n) → h'.2 z = some (aL mc r n) := fun q => kp _ _ q (fun _ q => by cases q)
  have kA : ∀ {z c : Nat} {f : Nat → Option Nat}, h2.2 z = some (aR c f) → h'.2 z = some (aR c f) := fun q => kp _ _ q (fun _ q => by cases q)
  obtain ⟨⟨m2, r2, c2', f2, t1, t2, t3, t4, t5⟩, t6, t7⟩ := St
  have aHi : ∀ i, 10 ≤ i → (fun i => if i = 0 then so else if i = 3 then E0 else ad i) i = ad i := fun i hi => by
    show (if i = 0 then so else if i = 3 then E0 else ad i) = _
    rw [if_neg (by omega), if_neg (by omega)]
  obtain ⟨adN, hN0, hN3, hNi⟩ : ∃ adN : Nat → Nat, adN 0 = so ∧ adN 3 = E0 ∧ ∀ i, 10 ≤ i → adN i = ad i := ⟨fun i => if i = 0 then so else if i = 3 then E0 else ad i, rfl, rfl, aHi⟩
  have cs10 : ∀ c, (decide (c < 10 * 4) && decide (c % 10 < 6)) = true → ∃ s k, s < 4 ∧ k < 6 ∧ c = 10 * s + k := by
    intro c hc
    simp only [Bool.and_eq_true, decide_eq_true_eq] at hc
    exact ⟨c / 10, c % 10, by omega, hc.2, by omega⟩
  have tt : ∀ s k, s < 4 → k < 6 → (t0S 4 6).2.2.1 (10 * s + k) = 10 * s + k := by
    intro s k hs hk
    show (if 10 * s + k < 10 * 4 ∧ (10 * s + k) % 10 < 6 then 10 * s + k else 0) = _
    rw [if_pos ⟨by omega, by omega⟩]
  have th : ∀ s, s < 4 → (t0S 4 6).2.1 s = 6 := fun s hs => if_pos hs
  have hc : ∀ i, sV (q0S 20) (fun _ => false) (fun c => decide (c < 10 * 4) && decide (c % 10 < 6)) i → h'.2 (adN i) = some (cS adN F q0S xI (sd_ad G 0) mcs (fun _ => false) (t0S 4 6) i) ∧ adN i < h2.1 := by
    refine sV_ind (P := fun i => h'.2 (adN i) = some (cS adN F q0S xI (sd_ad G 0) mcs (fun _ => false) (t0S 4 6) i) ∧ adN i < h2.1) ?_ ?_ (fun s hs => ?_) (fun s hs _ => ?_) (fun c hc8 hcs => ?_)
    · rw [hN0, so']
      refine ⟨?_, (w2.1 _ _ hso).2⟩
      show some (aSo 6 4 F E0) = some (aSo 6 4 F (adN 3))
      rw [hN3]
    · rw [hN3, E']
      refine ⟨?_, (w2.1 _ _ hE0).2⟩
      have ce : (fun f => cnv ((t0S 4 6).2.2.2.2 f)) = fun _ => 0 := funext fun f => (by decide : cnv 0 = 0)
      show (some (.inl (0, 24, .inl (fun _ => 0))) : Option sd_E) = some (.inl (0, 24, .inl (fun f => cnv ((t0S 4 6).2.2.2.2 f))))
      rw [ce]
    · have hs : s < 4 := hs
      rw [cS_10 (by omega), hNi _ (by omega), th s hs, kL (t6 s hs).1]
      refine ⟨?_, (w2.1 _ _ (t6 s hs).1).2⟩
      show some (aL (mcs s) (ad (20 + s)) 6) = some (aL (mcs s) (adN (20 + s)) 6)
      rw [hNi _ (by omega)]
    · have hs : s < 4 := hs
      rw [cS_20 (by omega), hNi _ (by omega), th s hs, kA (t6 s hs).2]
      refine ⟨?_, (w2.1 _ _ (t6 s hs).2).2⟩
      congr 1
      congr 1
      congr 1
      congr 1
      congr 1
      congr 1
      congr 1
      congr 1
      funext k
      by_cases ck : k < 6
      · rw [if_pos ck, if_pos ck, tt s k hs ck, hNi _ (by omega)]
      · rw [if_neg ck, if_neg ck]
    · obtain ⟨s, k, hs, hk, rfl⟩ := cs10 c hcs
      rw [cS_100, hNi _ (by omega), kp _ _ (t7 s k hs hk) (fun _ q => by cases q), show (10 * s + k) % 10 = k by omega]
      exact ⟨rfl, (w2.1 _ _ (t7 s k hs hk)).2⟩
  obtain ⟨ok, he⟩ := mkS (G := G) (h := h') (ad := adN) (F := F) (q := q0S) (x := xI) (mc := mcs) (em := fun _ => false) (cs := fun c => decide (c < 10 * 4) && decide (c % 10 < 6)) (t := t0S 4 6) w' (by decide) (fun i hi => (hc i hi).1) (fun s s' (hs : s < 4) (hs' : s' < 4) q => by
    rw [hNi _ (by omega), hNi _ (by omega)] at q
    rcases Nat.lt_trichotomy s s' with c | c | c
    · have := (p3 s s' c hs').1
      omega
    · exact c
    · have := (p3 s' s c hs).1
      omega) (fun s s' (hs : s < 4) (hs' : s' < 4) _ _ q => by
    rw [hNi _ (by omega), hNi _ (by omega)] at q
    rcases Nat.lt_trichotomy s s' with c | c | c
    · have := (p3 s s' c hs').2
      omega
    · exact c
    · have := (p3 s' s c hs).2
      omega) (fun c c' _ _ hc hc' q => by
    obtain ⟨s, k, hs, hk, rfl⟩ := cs10 c hc
    obtain ⟨s', k', hs', hk', rfl⟩ := cs10 c' hc'
    rw [hNi _ (by omega), hNi _ (by omega)] at q
    obtain ⟨rfl, rfl⟩ := x10 s s' k k' hs hs' hk hk' q
    rfl)
  generalize hρ : rhoC adN (sV (q0S 20) (fun _ => false) (fun c => decide (c < 10 * 4) && decide (c % 10 < 6))) = ρ at ok he
  have rN : ∀ a, (∀ i, sV (q0S 20) (fun _ => false) (fun c => decide (c < 10 * 4) && decide (c % 10 < 6)) i → adN i ≠ a) → ρ a = none := by
    intro a q
    rw [← hρ]
    exact rhoC_none q
  have rS : ∀ a, (∀ e, h'.2 a = some e → isS e = false) → ρ a = none := by
    intro a q
    refine rN a (fun i hi q' => ?_)
    have := (hc i hi).1
    rw [q'] at this
    have q2 := q _ this
    rw [cS_isS.1] at q2
    cases q2
  have rB : ∀ a, h2.1 ≤ a → ρ a = none := by
    intro a q
    refine rN a (fun i hi q' => ?_)
    have := (hc i hi).2
    omega
  have rL : ∀ a mc r n, h'.2 a = some (aL mc r n) → (∀ s, s < 4 → ad (10 + s) ≠ a) → ρ a = none := by
    intro a mc r n ha hne
    refine rN a (sV_ind (P := fun i => adN i ≠ a) ?_ ?_ (fun s hs => ?_) (fun s hs _ => ?_) (fun c hc8 hcs => ?_))
    · rw [hN0]
      intro q
      rw [q, ha] at so'
      cases so'
    · rw [hN3]
      intro q
      rw [q, ha] at E'
      cases E'
    · rw [hNi _ (by omega)]
      exact hne s hs
    · rw [hNi _ (by omega)]
      intro q
      have z := kA (t6 s hs).2
      rw [q, ha] at z
      cases z
    · obtain ⟨s, k, hs, hk, rfl⟩ := cs10 c hcs
      rw [hNi _ (by omega)]
      intro q
      have z := kp _ _ (t7 s k hs hk) (fun _ q => by cases q)
      rw [q, ha] at z
      cases z
  have rA : ∀ a c f, h'.2 a = some (aR c f) → (∀ s, s < 4 → ad (20 + s) ≠ a) → ρ a = none := by
    intro a c f ha hne
    refine rN a (sV_ind (P := fun i => adN i ≠ a) ?_ ?_ (fun s hs => ?_) (fun s hs _ => ?_) (fun c hc8 hcs => ?_))
    · rw [hN0]
      intro q
      rw [q, ha] at so'
      cases so'
    · rw [hN3]
      intro q
      rw [q, ha] at E'
      cases E'
    · rw [hNi _ (by omega)]
      intro q
      have z := kL (t6 s hs).1
      rw [q, ha] at z
      cases z
    · rw [hNi _ (by omega)]
      exact hne s hs
    · obtain ⟨s, k, hs, hk, rfl⟩ := cs10 c hcs
      rw [hNi _ (by omega)]
      intro q
      have z := kp _ _ (t7 s k hs hk) (fun _ q => by cases q)
      rw [q, ha] at z
      cases z
  have imh : ∀ a e, h'.2 a = some e → ρ a = none → im G h'.1 ρ h'.2 a e := by
    intro a e ha hr
    refine ⟨hr, (w'.1 _ _ ha).2, ?_⟩
    rw [ha]
  have cno : ∀ a e, sd_c G a = some e → h'.2 a = none := by
    intro a e ha
    have q2 := w'.2.2.1 _ _ ha
    cases hq : h'.2 a with
    | none => rfl
    | some e' =>
      have := (w'.1 _ _ hq).1
      omega
  obtain ⟨fz0, hz0⟩ := w'.2.2.2
  have imc : ∀ a e, sd_c G a = some e → im G h'.1 ρ h'.2 a e := by
    intro a e ha
    have q1 := cno a e ha
    have q2 := w'.2.2.1 _ _ ha
    have q3 := w'.2.1
    refine ⟨rS a (fun e' q => by rw [q1] at q; cases q), by omega, ?_⟩
    rw [q1]
    exact ha
  have z0 := imc _ _ hz0
  have lst : ∀ k, 3 ≤ k → k ≤ 5 → im G h'.1 ρ h'.2 (F k) (aL 0 (sd_ad G 0) 0) := fun k k1 k2 => imh _ _ (kL (lF k k1 k2)) (rL _ _ _ _ (kL (lF k k1 k2)) (nF k (by omega) k2))
  obtain ⟨n1, n2, n3', n4, n5⟩ := N
  refine ⟨w', (fun a hz => hz.elim), ok3_t0, dst_t0 (by decide), c1, c2, c3, h'.1, ρ, h'.2, adN, F, mcs, (fun _ => false), (fun c => decide (c < 10 * 4) && decide (c % 10 < 6)), (fun _ => sd_ad G 0), he, ⟨ok, ⟨fun s k hs hk => ?_, fun s _ q => by cases q⟩, ⟨⟨m2, r2, c2', f2, ?_, ?_, t3, t4, fun i (hi : i < 4) => by rw [hNi _ (by omega)]; exact t5 i hi⟩, ⟨0, sd_ad G 0, 0, fz0, lst 3 (by omega) (by omega), z0, Nat.le_refl _, by omega, fun i hi => absurd hi (Nat.not_lt_zero _)⟩, ⟨0, sd_ad G 0, 0, fz0, lst 4 (by omega) (by omega), z0, Nat.le_refl _, by omega, fun i hi => absurd hi (Nat.not_lt_zero _)⟩, fz0, z0⟩, okP_I, okT_t0 (by decide) (by decide) (by decide)⟩, ⟨0, sd_ad G 0, 0, fz0, lst 5 (by omega) (by omega), z0, Nat.le_refl _, by omega, fun i hi => absurd hi (Nat.not_lt_zero _)⟩, ⟨⟨_, _, _, _, _, _, _, n1⟩, ⟨_, n2, fun _ _ => rfl⟩, fun k k1 k2 => ?_, fun k k' k1 k2 k3 => ⟨?_, fun _ => rfl⟩⟩, ⟨fun k hk => ?_, fun k _ _ => z0.1, fun k k' k1 k2 k3 k4 => ⟨?_, fun _ _ _ _ => Or.inr rfl⟩, fun a hz => hz.elim⟩, hN0, hN3⟩
  · have hs : s < 4 := hs
    rw [th s hs] at hk
    rw [tt s k hs hk]
    simp only [Bool.and_eq_true, decide_eq_true_eq]
    omega
  · exact imh _ _ (kL t1) (rL _ _ _ _ (kL t1) (nF 2 (by omega) (by omega)))
  · refine imh _ _ (kA t2) (rA _ _ _ (kA t2) (fun s hs q => ?_))
    have g1 := (t6 s hs).2
    rw [q, t2] at g1
    have g2 : f2 = (fun k => if k < 6 then some (ad (100 + (10 * s + k))) else none) := by
      injection g1 with g1
      injection g1 with g1
      injection g1 with _ g1
      injection g1 with _ g1
      injection g1 with g1
      injection g1 with g1
      injection g1 with g1
      injection g1 with g1
    have g3 := t5 0 (by omega)
    rw [g2] at g3
    have g3 : some (ad (100 + (10 * s + 0))) = some (ad (10 + 0)) := g3
    injection g3 with g3
    have g4 := t7 s 0 hs (by omega)
    rw [g3, (t6 0 (by omega)).1] at g4
    cases g4
  · show ∃ m sz cap f, lsO G h' (if k = 0 then o4 else if k = 1 then E4 else F' k) m (sd_ad G 0) sz cap f ∧ cap ≤ 60
    rw [if_neg (by omega), if_neg (by omega)]
    exact ⟨0, 0, 0, fz0, ⟨(n3' k k1 k2).1, Or.inl ⟨rfl, rfl, rfl⟩, Nat.le_refl _, by omega⟩, by omega⟩
  · show (if k = 0 then o4 else if k = 1 then E4 else F' k) ≠ (if k' = 0 then o4 else if k' = 1 then E4 else F' k')
    rw [if_neg (by omega), if_neg (by omega), if_neg (by omega), if_neg (by omega)]
    exact n4 k k' k1 k2 k3
  · refine rB _ ?_
    show h2.1 ≤ (if k = 0 then o4 else if k = 1 then E4 else F' k)
    split
    · exact hn
    · split
      · omega
      · have := (n3' k (by omega) hk).2
        omega
  · show F k ≠ (if k' = 0 then o4 else if k' = 1 then E4 else F' k')
    rw [if_neg (by omega), if_neg (by omega)]
    have l1 := (n3' k' k3 k4).2
    have l2 : F k < h2.1 := by
      have : k = 2 ∨ 3 ≤ k := by omega
      rcases this with rfl | q
      · exact (w2.1 _ _ t1).2
      · exact (w2.1 _ _ (lF k q k2)).2
    omega
end FST
