/-! THE PLAIN LAW: a sofa's cells, named; lists taken over -/
theorem nh_of {h : sd_H} {ρ : Nat → Option Nat} {c : Nat → sd_E} (hc : ∀ a i, ρ a = some i → h.2 a = some (c i)) : h = nh h.1 ρ c h.2 := by
  refine Prod.ext rfl (funext fun q => ?_)
  cases hq : ρ q with
  | none => rw [nh_out hq]
  | some i => rw [nh_at hq, hc q i hq]
/-- names of addresses, out of addresses of names -/
noncomputable def rhoC (ad : Nat → Nat) (V : Nat → Prop) : Nat → Option Nat := fun a => match Classical.propDecidable (∃ i, V i ∧ ad i = a) with
  | isTrue h => some (Classical.choose h)
  | isFalse _ => none
theorem rhoC_some {ad : Nat → Nat} {V : Nat → Prop} {a i : Nat} (h : rhoC ad V a = some i) : V i ∧ ad i = a := by
  unfold rhoC at h
  split at h
  · next hh _ =>
    cases h
    exact Classical.choose_spec hh
  · cases h
theorem rhoC_at {ad : Nat → Nat} {V : Nat → Prop} (inj : ∀ i j, V i → V j → ad i = ad j → i = j) {i : Nat} (hi : V i) : rhoC ad V (ad i) = some i := by
  cases h : rhoC ad V (ad i) with
  | some j =>
    obtain ⟨h1, h2⟩ := rhoC_some h
    rw [inj j i h1 hi h2]
  | none =>
    unfold rhoC at h
    split at h
    · cases h
    · next hh _ => exact absurd ⟨i, hi, rfl⟩ hh
theorem rhoC_none {ad : Nat → Nat} {V : Nat → Prop} {a : Nat} (h : ∀ i, V i → ad i ≠ a) : rhoC ad V a = none := by
  cases hh : rhoC ad V a with
  | none => rfl
  | some i =>
    obtain ⟨h1, h2⟩ := rhoC_some hh
    exact absurd h2 (h i h1)
/-- a sofa named -/
theorem mkS {G : sd_G} {h : sd_H} {ad F : Nat → Nat} {q : Nat → Nat} {x : Nat → Nat → Int32} {mc : Nat → Int32} {em cs : Nat → Bool} {t : TT} (w : wfH G h) (h8 : q 20 ≤ 8)
    (hc : ∀ i, sV (q 20) em cs i → h.2 (ad i) = some (cS ad F q x (sd_ad G 0) mc em t i))
    (i1 : ∀ s s', s < q 20 → s' < q 20 → ad (10 + s) = ad (10 + s') → s = s')
    (i2 : ∀ s s', s < q 20 → s' < q 20 → em s = false → em s' = false → ad (20 + s) = ad (20 + s') → s = s')
    (i3 : ∀ c c', c < 80 → c' < 80 → cs c = true → cs c' = true → ad (100 + c) = ad (100 + c') → c = c') :
    sOk h.1 (rhoC ad (sV (q 20) em cs)) ad (q 20) em cs ∧ h = hSo G h.1 (rhoC ad (sV (q 20) em cs)) h.2 ad F q x mc em t := by
  have c0 : h.2 (ad 0) = _ := hc 0 (Or.inl rfl)
  have c3 : h.2 (ad 3) = _ := hc 3 (Or.inr (Or.inl rfl))
  have c10 : ∀ s, s < q 20 → h.2 (ad (10 + s)) = some (aL (mc s) (if em s = true then sd_ad G 0 else ad (20 + s)) (t.2.1 s)) := fun s hs => (hc _ (sV10 hs)).trans (by rw [cS_10 (by omega)])
  have c20 : ∀ s, s < q 20 → em s = false → h.2 (ad (20 + s)) = some (aR 10 (fun k => if k < t.2.1 s then some (ad (100 + t.2.2.1 (10 * s + k))) else none)) := fun s hs he => (hc _ (sV20 hs he)).trans (by rw [cS_20 (by omega)])
  have c100 : ∀ c, c < 80 → cs c = true → h.2 (ad (100 + c)) = some (.inr (3, [.int (n3 (c % 10)), .int (x 30 c), .int (x 31 c), .int (t.2.2.2.1 c)])) := fun c h1 h2 => (hc _ (sV100 h1 h2)).trans (by rw [cS_100])
  have inj : ∀ i j, sV (q 20) em cs i → sV (q 20) em cs j → ad i = ad j → i = j := by
    intro i j hi
    refine sV_ind (P := fun i => sV (q 20) em cs j → ad i = ad j → i = j) ?_ ?_ ?_ ?_ ?_ i hi
    · intro hj
      refine sV_ind (P := fun j => ad 0 = ad j → 0 = j) (fun _ => rfl) ?_ ?_ ?_ ?_ j hj
      · intro e; rw [e, c3] at c0; cases c0
      · intro s hs e; rw [e, c10 s hs] at c0; cases c0
      · intro s hs he e; rw [e, c20 s hs he] at c0; cases c0
      · intro c h1 h2 e; rw [e, c100 c h1 h2] at c0; cases c0
    · intro hj
      refine sV_ind (P := fun j => ad 3 = ad j → 3 = j) ?_ (fun _ => rfl) ?_ ?_ ?_ j hj
      · intro e; rw [e, c0] at c3; cases c3
      · intro s hs e; rw [e, c10 s hs] at c3; cases c3
      · intro s hs he e; rw [e, c20 s hs he] at c3; cases c3
      · intro c h1 h2 e; rw [e, c100 c h1 h2] at c3; cases c3
    · intro s hs hj
      have cc := c10 s hs
      refine sV_ind (P := fun j => ad (10 + s) = ad j → 10 + s = j) ?_ ?_ ?_ ?_ ?_ j hj
      · intro e; rw [e, c0] at cc; cases cc
      · intro e; rw [e, c3] at cc; cases cc
      · intro s' hs' e; rw [i1 s s' hs hs' e]
      · intro s' hs' he e; rw [e, c20 s' hs' he] at cc; cases cc
      · intro c h1 h2 e; rw [e, c100 c h1 h2] at cc; cases cc
    · intro s hs her hj
      have cc := c20 s hs her
      refine sV_ind (P := fun j => ad (20 + s) = ad j → 20 + s = j) ?_ ?_ ?_ ?_ ?_ j hj
      · intro e; rw [e, c0] at cc; cases cc
      · intro e; rw [e, c3] at cc; cases cc
      · intro s' hs' e; rw [e, c10 s' hs'] at cc; cases cc
      · intro s' hs' he e; rw [i2 s s' hs hs' her he e]
      · intro c h1 h2 e; rw [e, c100 c h1 h2] at cc; cases cc
    · intro c h1 h2 hj
      have cc := c100 c h1 h2
      refine sV_ind (P := fun j => ad (100 + c) = ad j → 100 + c = j) ?_ ?_ ?_ ?_ ?_ j hj
      · intro e; rw [e, c0] at cc; cases cc
      · intro e; rw [e, c3] at cc; cases cc
      · intro s' hs' e; rw [e, c10 s' hs'] at cc; cases cc
      · intro s' hs' he e; rw [e, c20 s' hs' he] at cc; cases cc
      · intro c' h1' h2' e; rw [i3 c c' h1 h1' h2 h2' e]
  refine ⟨⟨fun i hi => rhoC_at inj hi, fun a i ha => ?_, fun a i ha => ?_⟩, ?_⟩
  · obtain ⟨h1, h2⟩ := rhoC_some ha
    exact ⟨h2.symm, h1⟩
  · obtain ⟨h1, h2⟩ := rhoC_some ha
    rw [← h2]
    exact (w.1 _ _ (hc i h1)).2
  · unfold hSo
    refine nh_of (fun a i ha => ?_)
    obtain ⟨h1, h2⟩ := rhoC_some ha
    rw [← h2]
    exact hc i h1
section T1
variable {G : sd_G} {h : sd_H} {b : Nat × Nat}
/-- a list of the sofa taken over -/
theorem g_take1 {k w0 w1 B R sz cap S r1 k1 c1 : Nat} {m m1 : Int32} {f f1 : Nat → Option Nat} {ob ob1 : List Value} {REST : sd_M Nat} {Q : Nat → sd_H → Nat × Nat → Prop} (w : wfH G h) (o0 : h.2 w0 = some (.inr (2, ob))) (o1 : ob[k]? = some (.ref B)) (o2 : sd_look G h w1 = some (.inr (2, ob1))) (o3 : ob1[k]? = some (.ref S)) (L : lsO G h B m R sz cap f) (hcap : cap ≤ 60) (s1 : sd_look G h S = some (aL m1 r1 k1)) (s2 : sd_look G h r1 = some (aR c1 f1)) (s3 : k1 ≤ c1) (s4 : c1 ≤ 1000) (s5 : k1 ≤ 30) (d1 : S ≠ B) (d2 : r1 ≠ R ∨ R = sd_ad G 0) (s6 : ∀ j, j < k1 → ∃ y d fs, f1 j = some y ∧ sd_look G h y = some (.inr (d, fs)) ∧ sd_may 4 d = true ∧ d ≠ 41) (b1 : 2 ≤ b.1) (b2 : 100 ≤ b.2)
    (kk : ∀ h' r' cap' f' b', wfH G h' → lsO G h' B (m + 1 + 1) r' k1 cap' f' → cap' ≤ 60 → (∀ j, j < k1 → f' j = f1 j) → h.1 ≤ h'.1 → (r' = R ∨ h.1 ≤ r') → (∀ y, y ≠ B → y ≠ R → y < h.1 → h'.2 y = h.2 y) → b.1 ≤ b'.1 + 2 → b.2 ≤ b'.2 + 100 → wp REST h' b' Q) : wp (sd_bnd (sd_getR G 2 k w0) fun v7 => sd_bnd (sd_isC G 41 v7) fun _ => sd_bnd (fJ2_clear G v7) fun _ => sd_bnd (sd_getR G 2 k w0) fun v8 => sd_bnd (sd_getR G 2 k w1) fun v9 => sd_bnd (sd_isC G 41 v8) fun _ => sd_bnd (fJ2_addAll G v8 v9) fun _ => REST) h b Q := by
  have hne := lsO_ne L w
  have nR : ∀ {y : Nat} {o : Nat × List Value}, sd_look G h y = some (.inr o) → y ≠ R := by
    intro y o hy e
    rcases L.2.1 with ⟨y1, -⟩ | ⟨y1, -⟩
    · obtain ⟨f, hf⟩ := wfH_z w
      rw [e, y1, hf] at hy
      cases hy
    · rw [e, sd_look_new y1] at hy
      cases hy
  have w0B : w0 ≠ B := by
    intro e
    rw [e, L.1] at o0
    cases o0
  have w1B : w1 ≠ B := by
    intro e
    rw [e, sd_look_new L.1] at o2
    cases o2
  have r1B : r1 ≠ B := by
    intro e
    rw [e, sd_look_new L.1] at s2
    cases s2
  rw [wp_bnd, wp_getR (sd_look_new o0) o1, wp_bnd, (al_rd (sd_look_new L.1)).2.2.2.1, wp_bnd]
  refine g_clear w L (fun h2 w2 L2 e2 fr2 => ?_)
  have lk : ∀ {y : Nat} {e : sd_E}, sd_look G h y = some e → y ≠ B → y ≠ R → sd_look G h2 y = some e := fun hy a1 a2 => (look_eq (fr2 _ a1 a2)).trans hy
  have z0 := (wfH_z0 w).1
  have lk1 : sd_look G h2 r1 = some (aR c1 f1) := by
    rcases d2 with d2 | d2
    · exact lk s2 r1B d2
    · by_cases e : r1 = R
      · have : h2.2 r1 = h.2 r1 := by
          rw [e, d2, z0]
          exact (wfH_z0 w2).1
        exact (look_eq this).trans s2
      · exact lk s2 r1B e
  rw [wp_bnd, wp_getR (lk (sd_look_new o0) w0B (nR (sd_look_new o0))) o1, wp_bnd, wp_getR (lk o2 w1B (nR o2)) o3, wp_bnd, (al_rd (sd_look_new L2.1)).2.2.2.1, wp_bnd]
  refine g_addAll w2 L2 (lk s1 d1 (nR s1)) lk1 s3 s4 s5 hcap (fun j hj => ?_) b1 b2 (fun v h' r' cap' f' b' w' L' c1 c2 c3 c4 c5 c6 c7 => ?_)
  · obtain ⟨y, d, fs, y1, y2, y3, y4⟩ := s6 j hj
    rw [y1]
    unfold sd_okQ
    simp only [lk y2 (by
      intro e
      rw [e, sd_look_new L.1] at y2
      cases y2
      exact y4 rfl) (nR y2)]
    exact y3
  · exact kk h' r' cap' f' b' w' L' c1 c2 (by omega) (by omega) (fun y y1 y2 y3 => (c5 y y1 y2 (by omega)).trans (fr2 y y1 y2)) c6 c7
end T1
