/-! THE PLAIN LAW: the sofa that was read is the component's -/
/-- where the trees of the new sofa lie -/
def zN (G : sd_G) (n0 rd : Nat) (N TZ : Nat → Prop) (h : sd_H) (a : Nat) : Prop := (∃ c, h.2 a = some c ∧ PZ n0 rd N TZ a c) ∨ ∃ c, sd_c G a = some c
def wkS (S : SS) (u : Nat → Nat) (sz t : Nat) : Option Nat := fnd S (nwT u sz t)
theorem wkF_S {w : Int32} {S : SS} {kt : Nat → List Nat} {u : Nat → Nat} {sz t : Nat} (hw : w ≠ 0) (R : nmR S kt) (h : wkF w (S.1 22) kt u sz t ≠ none) : wkS S u sz t = wkF w (S.1 22) kt u sz t := by
  have e : wkF w (S.1 22) kt u sz t = fdK kt (txT u sz t) (List.range (S.1 22)) := if_neg hw
  rw [e] at h ⊢
  cases hd : fdK kt (txT u sz t) (List.range (S.1 22)) with
  | none => exact absurd hd h
  | some j =>
    have h1 := List.find?_some hd
    have h2 := List.mem_range.mp (List.mem_of_find?_eq_some hd)
    have h3 : kt j = txT u sz t := of_decide_eq_true h1
    have ok := (R j h2).2
    rw [h3] at ok
    exact (fnd_fd R ok).trans hd
section NCI
variable {G : sd_G} {u : Nat → Nat} {sz n0 n2 n4 tl so m rd E0 j : Nat} {ta tx : Nat → Nat} {w : Int32} {F ad : Nat → Nat} {mcs : Nat → Int32} {TZ : Nat → Prop} {S : SS} {os : List Ln} {h h0 h' : sd_H} {cx tp bt sz' : Nat} {B R : Nat → Nat} {x' : Nat → Nat → Int32} {ea : Int32} {bs : Nat → Int32}
theorem CI_new (w1 : w ≠ 0) (W : W2 G u sz n0 tl ta tx rd w so m n2 n4 E0 F ad mcs TZ S os j h) (p3 : ∀ s s', s < s' → s' < S.1 20 → ad (10 + s) < ad (10 + s') ∧ ad (20 + s) < ad (20 + s')) (pL : ∃ nL, n0 ≤ nL ∧ (∀ s, s < S.1 20 → nL ≤ ad (10 + s) ∧ nL ≤ ad (20 + s)) ∧ ∀ k, 2 ≤ k → k ≤ 5 → F k < nL ∧ n0 ≤ F k) (hson : n0 ≤ so) (hE0n : n0 ≤ E0) (w0 : wfH G h0) (hn : h0.1 = n0) (H : ahB G h0 B R) (f0 : ∀ a, a < n0 → a ≠ cx → h.2 a = h0.2 a) (hcx : ∃ fs, h0.2 cx = some (.inr (0, fs))) (kp : ∀ z e, h.2 z = some e → (∀ fs, e ≠ .inr (0, fs)) → (∀ fs, e ≠ .inr (1, fs)) → h'.2 z = some e) (w' : wfH G h') (hn' : h.1 ≤ h'.1) (tpn : tp < n0) (btn : bt < n0) (cxn : cx < n0) (c1 : h'.2 tp = some (.inr (1, [.ref bt, .int (n3 sz')]))) (c2 : h'.2 bt = some (.inl (2, 2000, .inl bs))) (c3 : h'.2 cx = some (.inr (0, [.ref tp, .int ea, .ref so, .ref (B 0)]))) (hP : okP S.1 x') (hx : ∀ j, 20 ≤ j → j ≤ 32 → x' j = S.2.2 j) (hor : ∀ k l, os[k]? = some l → x' 33 k = n3 (kdT u sz l.1) ∧ prt x' (2 * k) = res (wkS S u sz) l.2.2.1 ∧ prt x' (2 * k + 1) = res (wkS S u sz) l.2.2.2.1) :
    CI G cx tp bt so E0 B (zN G n0 rd (nmA u sz tx) TZ h') S.1 x' ea sz' bs h' (t0S (S.1 20) (S.1 21)) ∧ ¬ zN G n0 rd (nmA u sz tx) TZ h' tp ∧ ¬ zN G n0 rd (nmA u sz tx) TZ h' bt ∧ ¬ zN G n0 rd (nmA u sz tx) TZ h' cx := by
  obtain ⟨ky, nd, iv, kt, wf, n4l, rc, mo, hiv, nmr, ⟨rr, sz'', A, s3, s4, s5, hrr⟩, T, hso, hE0, St, T4, X0, osl, osn, q20, q21, q22, q26, q32, hT⟩ := W
  obtain ⟨x1, x2, x3, x4, x5, x6, x7, x8, x9, x10⟩ := X0
  obtain ⟨nL, l1, l2, l3⟩ := pL
  have so' : h'.2 so = some (aSo (n3 (S.1 21)) (n3 (S.1 20)) F E0) := kp _ _ hso (fun _ q => by cases q) (fun _ q => by cases q)
  have E' : h'.2 E0 = some (.inl (0, 24, .inl (fun _ => 0))) := kp _ _ hE0 (fun _ q => by cases q) (fun _ q => by cases q)
  have kL : ∀ {z : Nat} {mc : Int32} {r n : Nat}, h.2 z = some (aL mc r n) → h'.2 z = some (aL mc r n) := fun q => kp _ _ q (fun _ q => by cases q) (fun _ q => by cases q)
  have kA : ∀ {z c : Nat} {f : Nat → Option Nat}, h.2 z = some (aR c f) → h'.2 z = some (aR c f) := fun q => kp _ _ q (fun _ q => by cases q) (fun _ q => by cases q)
  obtain ⟨⟨m2, r2, c2', f2, t1, t2, t3, t4, t5⟩, t6, t7⟩ := St
  -- the names
  have a10 : ∀ s, s < S.1 20 → (fun i => if i = 0 then so else if i = 3 then E0 else ad i) (10 + s) = ad (10 + s) := fun s hs => by
    show (if 10 + s = 0 then so else if 10 + s = 3 then E0 else ad (10 + s)) = _
    rw [if_neg (by omega), if_neg (by omega)]
  have aHi : ∀ i, 10 ≤ i → (fun i => if i = 0 then so else if i = 3 then E0 else ad i) i = ad i := fun i hi => by
    show (if i = 0 then so else if i = 3 then E0 else ad i) = _
    rw [if_neg (by omega), if_neg (by omega)]
  obtain ⟨adN, hN0, hN3, hNi⟩ : ∃ adN : Nat → Nat, adN 0 = so ∧ adN 3 = E0 ∧ ∀ i, 10 ≤ i → adN i = ad i := ⟨fun i => if i = 0 then so else if i = 3 then E0 else ad i, rfl, rfl, aHi⟩
  have cs10 : ∀ c, (decide (c < 10 * S.1 20) && decide (c % 10 < S.1 21)) = true → ∃ s k, s < S.1 20 ∧ k < S.1 21 ∧ c = 10 * s + k := by
    intro c hc
    simp only [Bool.and_eq_true, decide_eq_true_eq] at hc
    exact ⟨c / 10, c % 10, by omega, hc.2, by omega⟩
  have tt : ∀ s k, s < S.1 20 → k < S.1 21 → (t0S (S.1 20) (S.1 21)).2.2.1 (10 * s + k) = 10 * s + k := by
    intro s k hs hk
    show (if 10 * s + k < 10 * S.1 20 ∧ (10 * s + k) % 10 < S.1 21 then 10 * s + k else 0) = _
    rw [if_pos ⟨by omega, by omega⟩]
  have th : ∀ s, s < S.1 20 → (t0S (S.1 20) (S.1 21)).2.1 s = S.1 21 := fun s hs => if_pos hs
  have hc : ∀ i, sV (S.1 20) (fun _ => false) (fun c => decide (c < 10 * S.1 20) && decide (c % 10 < S.1 21)) i → h'.2 (adN i) = some (cS adN F S.1 x' (sd_ad G 0) mcs (fun _ => false) (t0S (S.1 20) (S.1 21)) i) := by
    refine sV_ind ?_ ?_ (fun s hs => ?_) (fun s hs _ => ?_) (fun c hc8 hcs => ?_)
    · rw [hN0, so']
      show some (aSo (n3 (S.1 21)) (n3 (S.1 20)) F E0) = some (aSo (n3 (S.1 21)) (n3 (S.1 20)) F (adN 3))
      rw [hN3]
    · rw [hN3, E']
      have ce : (fun f => cnv ((t0S (S.1 20) (S.1 21)).2.2.2.2 f)) = fun _ => 0 := funext fun f => (by decide : cnv 0 = 0)
      show (some (.inl (0, 24, .inl (fun _ => 0))) : Option sd_E) = some (.inl (0, 24, .inl (fun f => cnv ((t0S (S.1 20) (S.1 21)).2.2.2.2 f))))
      rw [ce]
    · rw [cS_10 (by omega), hNi _ (by omega), th s hs, kL (t6 s hs).1]
      show some (aL (mcs s) (ad (20 + s)) (S.1 21)) = some (aL (mcs s) (adN (20 + s)) (S.1 21))
      rw [hNi _ (by omega)]
    · rw [cS_20 (by omega), hNi _ (by omega), th s hs, kA (t6 s hs).2]
      congr 1
      congr 1
      congr 1
      congr 1
      congr 1
      congr 1
      congr 1
      congr 1
      funext k
      by_cases ck : k < S.1 21
      · rw [if_pos ck, if_pos ck, tt s k hs ck, hNi _ (by omega)]
      · rw [if_neg ck, if_neg ck]
    · obtain ⟨s, k, hs, hk, rfl⟩ := cs10 c hcs
      rw [cS_100, hNi _ (by omega), kp _ _ (t7 s k hs hk) (fun _ q => by cases q) (fun _ q => by cases q), show (10 * s + k) % 10 = k by omega, hx 30 (by omega) (by omega), hx 31 (by omega) (by omega)]
      rfl
  obtain ⟨ok, he⟩ := mkS (G := G) (h := h') (ad := adN) (F := F) (q := S.1) (x := x') (mc := mcs) (em := fun _ => false) (cs := fun c => decide (c < 10 * S.1 20) && decide (c % 10 < S.1 21)) (t := t0S (S.1 20) (S.1 21)) w' q20.2 hc (fun s s' hs hs' q => by
    rw [hNi _ (by omega), hNi _ (by omega)] at q
    rcases Nat.lt_trichotomy s s' with c | c | c
    · have := (p3 s s' c hs').1
      omega
    · exact c
    · have := (p3 s' s c hs).1
      omega) (fun s s' hs hs' _ _ q => by
    rw [hNi _ (by omega), hNi _ (by omega)] at q
    rcases Nat.lt_trichotomy s s' with c | c | c
    · have := (p3 s s' c hs').2
      omega
    · exact c
    · have := (p3 s' s c hs).2
      omega) (fun c c' _ _ hc hc' q => by
    obtain ⟨s, k, hs, hk, rfl⟩ := cs10 c hc
    obtain ⟨s', k', hs', hk', rfl⟩ := cs10 c' hc'
    rw [hNi _ (by omega), hNi _ (by omega)] at q
    obtain ⟨rfl, rfl⟩ := x10 s s' k k' hs hs' hk hk' q
    rfl)
  generalize hρ : rhoC adN (sV (S.1 20) (fun _ => false) (fun c => decide (c < 10 * S.1 20) && decide (c % 10 < S.1 21))) = ρ at ok he
  have rN : ∀ a, (∀ i, sV (S.1 20) (fun _ => false) (fun c => decide (c < 10 * S.1 20) && decide (c % 10 < S.1 21)) i → adN i ≠ a) → ρ a = none := by
    intro a q
    rw [← hρ]
    exact rhoC_none q
  have rS : ∀ a, (∀ e, h'.2 a = some e → isS e = false) → ρ a = none := by
    intro a q
    refine rN a (fun i hi q' => ?_)
    have := hc i hi
    rw [q'] at this
    have q2 := q _ this
    rw [cS_isS.1] at q2
    cases q2
  have rB : ∀ a, a < n0 → ρ a = none := by
    intro a q
    refine rN a (sV_ind (P := fun i => adN i ≠ a) ?_ ?_ (fun s hs => ?_) (fun s hs _ => ?_) (fun c hc8 hcs => ?_))
    · rw [hN0]
      omega
    · rw [hN3]
      omega
    · rw [hNi _ (by omega)]
      have := (l2 s hs).1
      omega
    · rw [hNi _ (by omega)]
      have := (l2 s hs).2
      omega
    · obtain ⟨s, k, hs, hk, rfl⟩ := cs10 c hcs
      rw [hNi _ (by omega)]
      have := x9 s k hs hk
      omega
  -- a list, an array that is not a seat's
  have rL : ∀ a mc r n, h'.2 a = some (aL mc r n) → (∀ s, s < S.1 20 → ad (10 + s) ≠ a) → ρ a = none := by
    intro a mc r n ha hne
    refine rN a (sV_ind (P := fun i => adN i ≠ a) ?_ ?_ (fun s hs => ?_) (fun s hs _ => ?_) (fun c hc8 hcs => ?_))
    · rw [hN0]
      intro q
      rw [q, ha] at so'
      cases so'
    · rw [hN3]
      intro q
      rw [q, ha] at E'
      cases E'
    · rw [hNi _ (by omega)]
      exact hne s hs
    · rw [hNi _ (by omega)]
      intro q
      have z := kA (t6 s hs).2
      rw [q, ha] at z
      cases z
    · obtain ⟨s, k, hs, hk, rfl⟩ := cs10 c hcs
      rw [hNi _ (by omega)]
      intro q
      have z := kp _ _ (t7 s k hs hk) (fun _ q => by cases q) (fun _ q => by cases q)
      rw [q, ha] at z
      cases z
  have rA : ∀ a c f, h'.2 a = some (aR c f) → (∀ s, s < S.1 20 → ad (20 + s) ≠ a) → ρ a = none := by
    intro a c f ha hne
    refine rN a (sV_ind (P := fun i => adN i ≠ a) ?_ ?_ (fun s hs => ?_) (fun s hs _ => ?_) (fun c hc8 hcs => ?_))
    · rw [hN0]
      intro q
      rw [q, ha] at so'
      cases so'
    · rw [hN3]
      intro q
      rw [q, ha] at E'
      cases E'
    · rw [hNi _ (by omega)]
      intro q
      have z := kL (t6 s hs).1
      rw [q, ha] at z
      cases z
    · rw [hNi _ (by omega)]
      exact hne s hs
    · obtain ⟨s, k, hs, hk, rfl⟩ := cs10 c hcs
      rw [hNi _ (by omega)]
      intro q
      have z := kp _ _ (t7 s k hs hk) (fun _ q => by cases q) (fun _ q => by cases q)
      rw [q, ha] at z
      cases z
  have imh : ∀ a e, h'.2 a = some e → ρ a = none → im G h'.1 ρ h'.2 a e := by
    intro a e ha hr
    refine ⟨hr, (w'.1 _ _ ha).2, ?_⟩
    rw [ha]
  have cno : ∀ a e, sd_c G a = some e → h'.2 a = none := by
    intro a e ha
    have q2 := w'.2.2.1 _ _ ha
    cases hq : h'.2 a with
    | none => rfl
    | some e' =>
      have := (w'.1 _ _ hq).1
      omega
  have imc : ∀ a e, sd_c G a = some e → im G h'.1 ρ h'.2 a e := by
    intro a e ha
    have q1 := cno a e ha
    have q2 := w'.2.2.1 _ _ ha
    have q3 := w'.2.1
    refine ⟨rS a (fun e' q => by rw [q1] at q; cases q), by omega, ?_⟩
    rw [q1]
    exact ha
  have z0 := wfH_z0 wf
  obtain ⟨fz0, hz0⟩ := wf.2.2.2
  -- the three lists
  have lst : ∀ k, 3 ≤ k → k ≤ 5 → ∃ m r c f, im G h'.1 ρ h'.2 (F k) (aL m r (sz'' k)) ∧ im G h'.1 ρ h'.2 r (aR c f) ∧ sz'' k ≤ c ∧ c ≤ 1000 ∧ (r = sd_ad G 0 ∨ n2 ≤ r) ∧ ∀ i, i < sz'' k → ∃ a, f i = some a ∧ EL2 G (kdT u sz) (vlT u sz) S.2.2 (S.1 22) (wkF w (S.1 22) kt u sz) (Lp G (PZ n0 rd (nmA u sz tx) TZ) h) os h k i a := by
    intro k k1 k2
    obtain ⟨mc, cap, f, a1, a2, a3, a4⟩ := A.1 k k1 k2
    have f1 := imh _ _ (kL a1.1) (rL _ _ _ _ (kL a1.1) (fun s hs q => (x8 s hs).2.2 k k1 k2 q))
    rcases a1.2.1 with ⟨q1, q2, q3⟩ | ⟨q1, -⟩
    · refine ⟨mc, rr k, 0, fz0, f1, by rw [q1]; exact imc _ _ hz0, by omega, by omega, a3, fun i hi => by omega⟩
    · refine ⟨mc, rr k, cap, f, f1, imh _ _ (kA q1) (rA _ _ _ (kA q1) (fun s hs q => ?_)), a1.2.2.1, a1.2.2.2, a3, a4⟩
      rcases (hrr k k1 k2).1 with q4 | q4
      · rw [q4, z0.1] at q1
        cases q1
      · have := (x8 s hs).2.1
        omega
  -- trees
  have toI : ∀ a c, Lp G (PZ n0 rd (nmA u sz tx) TZ) h a c → imZ G h'.1 ρ h'.2 (zN G n0 rd (nmA u sz tx) TZ h') a c := by
    rintro a c (⟨z1, z2⟩ | z)
    · have z3 : h'.2 a = some c := by
        refine kp _ _ z1 (fun fs q => ?_) (fun fs q => ?_)
        · rw [q] at z2
          cases z2.1
        · rw [q] at z2
          cases z2.1
      refine ⟨imh _ _ z3 ?_, Or.inl ⟨c, z3, z2⟩⟩
      rcases z2.2 with q | ⟨-, -, ⟨-, v, hs, hz, q⟩ | ⟨ln, g, q, -⟩⟩
      · refine rN a (sV_ind (P := fun i => adN i ≠ a) ?_ ?_ (fun s hs => ?_) (fun s hs _ => ?_) (fun c' hc8 hcs => ?_))
        · rw [hN0]
          intro q'
          rw [q', z3] at so'
          cases so'
          cases z2.1
        · rw [hN3]
          intro q'
          rw [q', z3] at E'
          cases E'
          cases z2.1
        · rw [hNi _ (by omega)]
          have := (x8 s hs).1
          have := (hT a q).1
          omega
        · rw [hNi _ (by omega)]
          have := (x8 s hs).2.1
          have := (hT a q).1
          omega
        · obtain ⟨s, k, hs, hk, rfl⟩ := cs10 c' hcs
          rw [hNi _ (by omega)]
          intro q'
          have z := kp _ _ (t7 s k hs hk) (fun _ q => by cases q) (fun _ q => by cases q)
          rw [q', z3] at z
          cases z
          cases z2.1
      · exact rS a (fun e q' => by rw [z3, q] at q'; cases q'; rfl)
      · exact rS a (fun e q' => by rw [z3, q] at q'; cases q'; rfl)
    · exact ⟨imc _ _ z, Or.inr ⟨c, z⟩⟩
  -- below: what was there before
  have old : ∀ z e, h0.2 z = some e → (∀ fs, e ≠ .inr (0, fs)) → (∀ fs, e ≠ .inr (1, fs)) → h'.2 z = some e ∧ z < n0 := by
    intro z e hz q1 q2
    have lz := (w0.1 _ _ hz).2
    refine ⟨kp _ _ ((f0 z (by omega) ?_).trans hz) q1 q2, by omega⟩
    rintro rfl
    obtain ⟨fs, q⟩ := hcx
    rw [q] at hz
    cases hz
    exact q1 _ rfl
  obtain ⟨⟨i0, i1, v7, v8, v9, v10, v11, H1⟩, ⟨e1, H2, H2'⟩, H3, H4⟩ := H
  have Bn : ∀ k, k ≤ 5 → B k < n0 := by
    intro k hk
    have : k = 0 ∨ k = 1 ∨ 2 ≤ k := by omega
    rcases this with rfl | rfl | q
    · exact (old _ _ H1 (fun _ q => by cases q) (fun _ q => by cases q)).2
    · exact (old _ _ H2 (fun _ q => by cases q) (fun _ q => by cases q)).2
    · obtain ⟨m', s', c', f', L', -⟩ := H3 k q hk
      exact (old _ _ L'.1 (fun _ q => by cases q) (fun _ q => by cases q)).2
  have Rn : ∀ k, 2 ≤ k → k ≤ 5 → R k = sd_ad G 0 ∨ (R k < n0 ∧ ∃ c f, h'.2 (R k) = some (aR c f)) := by
    intro k q hk
    obtain ⟨m', s', c', f', L', -⟩ := H3 k q hk
    rcases L'.2.1 with ⟨q, -⟩ | ⟨q, -⟩
    · exact Or.inl q
    · have := old _ _ q (fun _ q => by cases q) (fun _ q => by cases q)
      exact Or.inr ⟨this.2, c', f', this.1⟩
  have B0c : h'.2 (B 0) = _ := (old _ _ H1 (fun _ q => by cases q) (fun _ q => by cases q)).1
  have B1c : h'.2 (B 1) = _ := (old _ _ H2 (fun _ q => by cases q) (fun _ q => by cases q)).1
  have Bk : ∀ k, 2 ≤ k → k ≤ 5 → ∃ m s c f, lsO G h' (B k) m (R k) s c f ∧ c ≤ 60 := by
    intro k q hk
    obtain ⟨m', s', c', f', L', hc60⟩ := H3 k q hk
    refine ⟨m', s', c', f', ⟨(old _ _ L'.1 (fun _ q => by cases q) (fun _ q => by cases q)).1, ?_, L'.2.2⟩, hc60⟩
    rcases L'.2.1 with q | ⟨q, q'⟩
    · exact Or.inl q
    · exact Or.inr ⟨(old _ _ q (fun _ q => by cases q) (fun _ q => by cases q)).1, q'⟩
  have isMF : ∀ c, isTr c = true → isM c = false := by
    intro c hc
    cases c with
    | inl y =>
      obtain ⟨t, y⟩ := y
      have hc : (decide (t = 4) || decide (t = 2)) = true := hc
      simp only [Bool.or_eq_true, decide_eq_true_eq] at hc
      show (decide (t = 0) || decide (t = 1) || decide (t = 3)) = false
      simp only [Bool.or_eq_false_iff, decide_eq_false_iff_not]
      omega
    | inr y =>
      obtain ⟨t, y⟩ := y
      have hc : ((decide (12 ≤ t) && decide (t ≤ 41)) || decide (t = 45)) = true := hc
      simp only [Bool.or_eq_true, Bool.and_eq_true, decide_eq_true_eq] at hc
      show (decide (t = 4) || decide (t = 5)) = false
      simp only [Bool.or_eq_false_iff, decide_eq_false_iff_not]
      omega
  have Zold : ∀ a e, zN G n0 rd (nmA u sz tx) TZ h' a → a < n0 → h'.2 a = some e → ∃ ln g, e = aB ln g ∧ ln ≤ 2 := by
    intro a e hz hlt ha
    rcases hz with ⟨c, q1, q2⟩ | ⟨c, q1⟩
    · rw [ha] at q1
      cases q1
      rcases q2.2 with q | ⟨-, -, ⟨q, -⟩ | ⟨ln, g, q, q'⟩⟩
      · have := (hT a q).1
        omega
      · omega
      · exact ⟨ln, g, q, q'⟩
    · rw [cno a c q1] at ha
      cases ha
  refine ⟨⟨w', fun a hz => ⟨?_, fun e ha => ?_⟩, ok3_t0, dst_t0 q21.2, c1, c2, c3, h'.1, ρ, h'.2, adN, F, mcs, (fun _ => false), (fun c => decide (c < 10 * S.1 20) && decide (c % 10 < S.1 21)), R, he, ⟨ok, ⟨fun s k hs hk => ?_, fun s _ q => by cases q⟩, ⟨⟨m2, r2, c2', f2, ?_, ?_, t3, t4, fun i hi => by rw [hNi _ (by omega)]; exact t5 i hi⟩, ?_, ?_, fz0, imc _ _ hz0⟩, hP, okT_t0 q20.1 q20.2 q21.2⟩, ?_, ⟨⟨i0, i1, v7, v8, v9, v10, v11, B0c⟩, ⟨e1, B1c, H2'⟩, Bk, H4⟩, ⟨fun k hk => rB _ (Bn k hk), fun k q hk => ?_, fun k k' k1 k2 k3 k4 => ⟨?_, fun mm r l q => ?_⟩, fun a hz => ⟨fun k hk q => ?_, fun k k1 k2 => ?_⟩⟩, hN0, hN3⟩, fun hz => ?_, fun hz => ?_, fun hz => ?_⟩
  · rcases hz with ⟨c, q1, -⟩ | ⟨c, q1⟩
    · exact (w'.1 _ _ q1).2
    · have := w'.2.2.1 _ _ q1
      have := w'.2.1
      omega
  · rcases hz with ⟨c, q1, q2⟩ | ⟨c, q1⟩
    · rw [ha] at q1
      cases q1
      exact isMF _ q2.1
    · rw [cno a c q1] at ha
      cases ha
  · rw [th s hs] at hk
    rw [tt s k hs hk]
    simp only [Bool.and_eq_true, decide_eq_true_eq]
    omega
  · exact imh _ _ (kL t1) (rL _ _ _ _ (kL t1) (fun s hs q => by have := (l2 s hs).1; have := (l3 2 (by omega) (by omega)).1; omega))
  · refine imh _ _ (kA t2) (rA _ _ _ (kA t2) (fun s hs q => ?_))
    have g1 := (t6 s hs).2
    rw [q, t2] at g1
    have g2 : f2 = fun k => if k < S.1 21 then some (ad (100 + (10 * s + k))) else none := by
      injection g1 with g1
      injection g1 with g1
      injection g1 with _ g1
      injection g1 with _ g1
      injection g1 with g1
      injection g1 with g1
      injection g1 with g1
      injection g1 with g1
    have g3 := t5 0 (by omega)
    rw [g2] at g3
    have g3 : (if 0 < S.1 21 then some (ad (100 + (10 * s + 0))) else none) = some (ad (10 + 0)) := g3
    rw [if_pos (by omega)] at g3
    injection g3 with g3
    have g4 := t7 s 0 hs (by omega)
    rw [g3, (t6 0 (by omega)).1] at g4
    cases g4
  · obtain ⟨mc, r, c, f, b1, b2, b3, b4, b5, b6⟩ := lst 3 (by omega) (by omega)
    rw [s3] at b1 b3 b6
    refine ⟨mc, r, c, f, b1, b2, b3, b4, fun i hi => ?_⟩
    obtain ⟨a, g1, g2⟩ := b6 i hi
    have g3 := kp _ _ (g2.1 rfl) (fun _ q => by cases q) (fun _ q => by cases q)
    rw [hx 24 (by omega) (by omega), hx 25 (by omega) (by omega)]
    exact ⟨a, g1, imh _ _ g3 (rS a (fun e q => by rw [g3] at q; cases q; rfl))⟩
  · obtain ⟨mc, r, c, f, b1, b2, b3, b4, b5, b6⟩ := lst 4 (by omega) (by omega)
    rw [s4] at b1 b3 b6
    refine ⟨mc, r, c, f, b1, b2, b3, b4, fun i hi => ?_⟩
    obtain ⟨a, g1, g2⟩ := b6 i hi
    have g3 := kp _ _ (g2.2.1 rfl) (fun _ q => by cases q) (fun _ q => by cases q)
    have g4 : strm x' i = strm S.2.2 i := by
      unfold strm
      rw [hx 28 (by omega) (by omega)]
    rw [hx 27 (by omega) (by omega), hx 29 (by omega) (by omega), g4]
    exact ⟨a, g1, imh _ _ g3 (rS a (fun e q => by rw [g3] at q; cases q; rfl))⟩
  · obtain ⟨mc, r, c, f, b1, b2, b3, b4, b5, b6⟩ := lst 5 (by omega) (by omega)
    rw [s5] at b1 b3 b6
    refine ⟨mc, r, c, f, b1, b2, b3, b4, fun i hi => ?_⟩
    obtain ⟨a, g1, g2⟩ := b6 i hi
    obtain ⟨l, g3, cr, se, te, jj, o1, o2, o3, o4, o5, o6, o7, o8⟩ := g2.2.2 rfl
    obtain ⟨d1, d2, d3⟩ := hor i l g3
    obtain ⟨ab1, ab2⟩ := pLin_abt (osn l (List.mem_of_getElem? g3)) o8
    have re : ∀ t, wkF w (S.1 22) kt u sz t ≠ none → wkS S u sz t = wkF w (S.1 22) kt u sz t := fun t ht => wkF_S w1 nmr ht
    refine ⟨a, cr, se, te, jj, g1, toI _ _ o1, o2, ⟨imc _ _ o4, Or.inr ⟨_, o4⟩⟩, by rw [d1, o3], ?_, ?_⟩
    · rw [d2, res_eq o7 re _ ab1]
      exact isSm_mono toI (Nat.le_refl _) _ _ _ _ _ _ (Nat.le_refl _) (Nat.le_refl _) o5
    · rcases o6 with o6 | ⟨o6, o6'⟩
      · refine Or.inl ?_
        rw [d3, res_eq o7 re _ ab2]
        exact isTs_mono toI (Nat.le_refl _) _ _ _ _ (Nat.le_refl _) o6
      · refine Or.inr ⟨toI _ _ o6, ?_⟩
        rw [d3, o6']
        rfl
  · rcases Rn k q hk with q | ⟨q, -⟩
    · rw [q]
      exact (imc _ _ hz0).1
    · exact rB _ q
  · have := Bn k' k4
    have := (l3 k k1 k2).2
    omega
  · rcases Rn k' k3 k4 with q' | ⟨q', cR, fR, qR⟩
    · exact Or.inr q'
    · refine Or.inl ?_
      have key : r = sd_ad G 0 ∨ n0 ≤ r := by
        by_cases c : k = 2
        · subst c
          have q := q.2.2
          rw [kL t1] at q
          have q : some (aL m2 r2 (S.1 20)) = some (aL mm r l) := q
          have er := aL_r (Option.some.inj q)
          subst er
          exact Or.inr (T4.2 _ _ _ t1).2
        · obtain ⟨mc, cap, f, a1, a2, a3, a4⟩ := A.1 k (by omega) k2
          have q := q.2.2
          rw [kL a1.1] at q
          have q : some (aL mc (rr k) (sz'' k)) = some (aL mm r l) := q
          have er := aL_r (Option.some.inj q)
          rw [← er]
          rcases a3 with a3 | a3
          · exact Or.inl a3
          · exact Or.inr (by omega)
      rcases key with q2 | q2
      · intro q3
        rw [← q3, q2, (wfH_z0 w').1] at qR
        cases qR
      · omega
  · have bk := Bn k hk
    have : k = 0 ∨ k = 1 ∨ 2 ≤ k := by omega
    rw [q] at hz
    rcases this with rfl | rfl | q5
    · obtain ⟨ln, g, q6, -⟩ := Zold _ _ hz bk B0c
      cases q6
    · obtain ⟨ln, g, q6, -⟩ := Zold _ _ hz bk B1c
      cases q6
    · obtain ⟨m', s', c', f', L', -⟩ := Bk k q5 hk
      obtain ⟨ln, g, q6, -⟩ := Zold _ _ hz bk L'.1
      cases q6
  · rcases Rn k k1 k2 with q' | ⟨q', c, f, q5⟩
    · exact Or.inr q'
    · refine Or.inl ?_
      intro q6
      rw [q6] at hz
      obtain ⟨ln, g, q7, -⟩ := Zold _ _ hz q' q5
      cases q7
  · obtain ⟨ln, g, q6, -⟩ := Zold _ _ hz tpn c1
    cases q6
  · obtain ⟨ln, g, q6, q7⟩ := Zold _ _ hz btn c2
    cases q6
    omega
  · obtain ⟨ln, g, q6, -⟩ := Zold _ _ hz cxn c3
    cases q6
end NCI
