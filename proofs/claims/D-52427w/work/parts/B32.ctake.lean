/-! THE PLAIN LAW: the component's predicate, kept by others, and looking ahead -/
section CK
variable {n n' : Nat} {ρ ρ' : Nat → Option Nat} {K K' : Nat → Option sd_E} {ad ad' F R : Nat → Nat} {mc mc' : Nat → Int32} {em em' cs : Nat → Bool} {t t' : TT} {b : Nat × Nat} {G : sd_G} {cx tp bt s0 E1 : Nat} {B : Nat → Nat} {Z : Nat → Prop} {q : Nat → Nat} {x : Nat → Nat → Int32} {ea : Int32} {sz : Nat} {bs : Nat → Int32} {h h' : sd_H}
/-- the own view on any heap where the cells stay that matter -/
theorem so_back (w : wfH G (hSo G n ρ K ad F q x mc em t)) (A : sA G n ρ K ad F q x em cs t) (O : sO G n ρ K Z F q x) (w' : wfH G h') (hn : n ≤ h'.1) (P : Nat → Prop) (hP : ∀ a, a < n → P a → h'.2 a = (hSo G n ρ K ad F q x mc em t).2 a) (p1 : ∀ a i, ρ a = some i → P a) (p2 : ∀ a d fs, im G n ρ K a (.inr (d, fs)) → d = 10 ∨ d = 11 → P a) (pz : P (sd_ad G 0)) (pa : ∀ a k m l c f, 2 ≤ k → k ≤ 5 → im G n ρ K (F k) (aL m a l) → im G n ρ K a (aR c f) → P a) (p3 : ∀ k, 2 ≤ k → k ≤ 5 → P (F k)) (p4 : ∀ a, Z a → P a) : h' = hSo G h'.1 ρ h'.2 ad F q x mc em t ∧ sA G h'.1 ρ h'.2 ad F q x em cs t ∧ sO G h'.1 ρ h'.2 Z F q x ∧ ∀ a e, P a → im G n ρ K a e → im G h'.1 ρ h'.2 a e := by
  have imP : ∀ {a : Nat} {e : sd_E}, P a → im G n ρ K a e → im G h'.1 ρ h'.2 a e := by
    intro a e hp hi
    refine ⟨hi.1, Nat.lt_of_lt_of_le hi.2.1 hn, ?_⟩
    rw [hP a hi.2.1 hp]
    unfold hSo
    rw [nh_out hi.1]
    exact hi.2.2
  have imA : ∀ {a k l c : Nat} {m : Int32} {f : Nat → Option Nat}, 2 ≤ k → k ≤ 5 → im G n ρ K (F k) (aL m a l) → im G n ρ K a (aR c f) → im G h'.1 ρ h'.2 a (aR c f) := fun k2 k5 h1 hi => imP (pa _ _ _ _ _ _ k2 k5 h1 hi) hi
  refine ⟨?_, ⟨⟨A.1.1, A.1.2.1, fun a i ha => Nat.lt_of_lt_of_le (A.1.2.2 a i ha) hn⟩, A.2.1, ⟨?_, ?_, ?_, ?_⟩, A.2.2.2⟩, ?_, fun a e => imP⟩
  · refine Prod.ext rfl (funext fun a => ?_)
    cases hr : ρ a with
    | some i =>
      rw [hP a (A.1.2.2 a i hr) (p1 a i hr)]
      unfold hSo
      rw [nh_at hr, nh_at hr]
    | none =>
      unfold hSo
      rw [nh_out hr]
  · obtain ⟨m, r, c, f, a1, a2, a3, a4, a5⟩ := A.2.2.1.1
    exact ⟨m, r, c, f, imP (p3 2 (by omega) (by omega)) a1, imA (by omega) (by omega) a1 a2, a3, a4, a5⟩
  · obtain ⟨m, r, c, f, a1, a2, a3, a4, a5⟩ := A.2.2.1.2.1
    refine ⟨m, r, c, f, imP (p3 3 (by omega) (by omega)) a1, imA (by omega) (by omega) a1 a2, a3, a4, fun i hi => ?_⟩
    obtain ⟨a, y1, y2⟩ := a5 i hi
    exact ⟨a, y1, imP (p2 _ _ _ y2 (Or.inl rfl)) y2⟩
  · obtain ⟨m, r, c, f, a1, a2, a3, a4, a5⟩ := A.2.2.1.2.2.1
    refine ⟨m, r, c, f, imP (p3 4 (by omega) (by omega)) a1, imA (by omega) (by omega) a1 a2, a3, a4, fun i hi => ?_⟩
    obtain ⟨a, y1, y2⟩ := a5 i hi
    exact ⟨a, y1, imP (p2 _ _ _ y2 (Or.inr rfl)) y2⟩
  · obtain ⟨f, a1⟩ := A.2.2.1.2.2.2
    exact ⟨f, imP pz a1⟩
  · exact sO_mo (fun a e ha => ⟨imP (p4 a ha.2) ha.1, ha.2⟩) O (fun m r c f a1 a2 a3 a4 => ⟨m, r, c, f, imP (p3 5 (by omega) (by omega)) a1, imA (by omega) (by omega) a1 a2, a3, a4, fun _ _ => rfl⟩)
theorem im_F {k : Nat} (A : sA G n ρ K ad F q x em cs t) (O : sO G n ρ K Z F q x) (k2 : 2 ≤ k) (k5 : k ≤ 5) : ∃ m r l c f, im G n ρ K (F k) (aL m r l) ∧ im G n ρ K r (aR c f) := by
  obtain ⟨⟨m2, r2, c2, f2, a1, b1, -⟩, ⟨m3, r3, c3, f3, a2, b2, -⟩, ⟨m4, r4, c4, f4, a3, b3, -⟩, -⟩ := A.2.2.1
  obtain ⟨m5, r5, c5, f5, a4, b4, -⟩ := O
  have hk : k = 2 ∨ k = 3 ∨ k = 4 ∨ k = 5 := by omega
  rcases hk with rfl | rfl | rfl | rfl
  · exact ⟨_, _, _, _, _, a1, b1⟩
  · exact ⟨_, _, _, _, _, a2, b2⟩
  · exact ⟨_, _, _, _, _, a3, b3⟩
  · exact ⟨_, _, _, _, _, a4, b4⟩
theorem aL_r {m m' : Int32} {r r' l l' : Nat} (e : aL m r l = aL m' r' l') : r = r' := by
  injection e with e
  injection e with _ e
  injection e with _ e
  injection e with e _
  injection e
theorem im_val {a : Nat} {e e' : sd_E} (h1 : im G n ρ K a e) (h2 : im G n ρ K a e') : e = e' := Option.some.inj (h1.2.2.symm.trans h2.2.2)
theorem im_at {a : Nat} {e : sd_E} (h : im G n ρ K a e) : (hSo G n ρ K ad F q x mc em t).2 a = some e ∨ ((hSo G n ρ K ad F q x mc em t).2 a = none ∧ sd_c G a = some e) := by
  obtain ⟨h1, h2, h3⟩ := h
  unfold hSo
  rw [nh_out h1]
  cases hk : K a with
  | some e' =>
    rw [hk] at h3
    exact Or.inl h3
  | none =>
    rw [hk] at h3
    exact Or.inr ⟨rfl, h3⟩
/-- kept by what changes nothing but the model's cells -/
theorem CI_keep (C : CI G cx tp bt s0 E1 B Z q x ea sz bs h t) (w' : wfH G h') (hn : h.1 ≤ h'.1) (hk : ∀ a, a < h.1 → (∀ e, h.2 a = some e → isM e = false ∨ a = E1 ∨ a = B 1) → h'.2 a = h.2 a) : CI G cx tp bt s0 E1 B Z q x ea sz bs h' t := by
  obtain ⟨w, Zk, h3, hd, c1, c2, c3, n, ρ, K, ad, F, mc, em, cs, R, rfl, A, O, H, D, e0, e1⟩ := C
  have keep : ∀ {a : Nat} {e : sd_E}, (hSo G n ρ K ad F q x mc em t).2 a = some e → isM e = false → h'.2 a = some e := fun h1 h2 => (hk _ (w.1 _ _ h1).2 (fun e' he => Or.inl (by rw [h1] at he; cases he; exact h2))).trans h1
  have key := so_back w A O w' hn (fun a => ∀ e, (hSo G n ρ K ad F q x mc em t).2 a = some e → isM e = false ∨ a = E1 ∨ a = B 1) (fun a h1 h2 => hk a h1 h2) (fun a i hr e he => ?_) (fun a d fs hi hd e' h => ?_) (fun e h => by rw [(wfH_z0 w).1] at h; cases h) (fun a k m l c f k2 k5 _ hi e' h => ?_) (fun k k2 k5 e h => ?_) (fun a ha e h => Or.inl ((Zk a ha).2 e h))
  · obtain ⟨k1, k2, k3, k4⟩ := key
    obtain ⟨d1, d2, d3, d4⟩ := D
    refine ⟨w', fun a ha => ⟨Nat.lt_of_lt_of_le (Zk a ha).1 hn, fun e he => ?_⟩, h3, hd, keep c1 rfl, keep c2 rfl, keep c3 rfl, h'.1, ρ, h'.2, ad, F, mc, em, cs, R, k1, k2, k3, ahB_keep H ?_ ?_ (fun k k2 k5 => ?_) (fun k k2 k5 => ?_), ⟨d1, d2, fun k k' k2 k5 k2' k5' => ⟨(d3 k k' k2 k5 k2' k5').1, fun m r l hi => ?_⟩, d4⟩, e0, e1⟩
    · rw [hk a (Zk a ha).1 (fun e h => Or.inl ((Zk a ha).2 e h))] at he
      exact (Zk a ha).2 e he
    · obtain ⟨i0, i1, v7, v8, v9, v10, v11, h0⟩ := H.1
      exact (keep h0 rfl).trans h0.symm
    · obtain ⟨e, h0, -⟩ := H.2.1
      exact hk _ (w.1 _ _ h0).2 (fun _ _ => Or.inr (Or.inr rfl))
    · obtain ⟨m, sz, cap, f, l, -⟩ := H.2.2.1 k k2 k5
      exact (keep l.1 rfl).trans l.1.symm
    · obtain ⟨m, sz, cap, f, l, -⟩ := H.2.2.1 k k2 k5
      rcases l.2.1 with ⟨l1, -⟩ | ⟨l1, -⟩
      · rw [l1, (wfH_z0 w').1, (wfH_z0 w).1]
      · exact (keep l1 rfl).trans l1.symm
    · obtain ⟨m0, r0, l0, c0, f0, i1, i2⟩ := im_F A O k2 k5
      have i3 := k4 _ _ (fun e h => by
        rcases im_at (ad := ad) (F := F) (q := q) (x := x) (mc := mc) (em := em) (t := t) i1 with h1 | ⟨h1, -⟩
        · rw [h1] at h; cases h; exact Or.inl rfl
        · rw [h1] at h; cases h) i1
      rw [aL_r (im_val hi i3)]
      exact (d3 k k' k2 k5 k2' k5').2 _ _ _ i1
  · by_cases c : a = ad 3
    · exact Or.inr (Or.inl (c.trans e1))
    · refine Or.inl ?_
      cases hm : isM e with
      | false => rfl
      | true =>
        have := so_M A.1 he hm c
        rw [hr] at this
        cases this
  · refine Or.inl ?_
    rcases im_at (ad := ad) (F := F) (q := q) (x := x) (mc := mc) (em := em) (t := t) hi with h1 | ⟨h1, -⟩
    · rw [h1] at h
      cases h
      rcases hd with rfl | rfl
      · rfl
      · rfl
    · rw [h1] at h; cases h
  · refine Or.inl ?_
    rcases im_at (ad := ad) (F := F) (q := q) (x := x) (mc := mc) (em := em) (t := t) hi with h1 | ⟨h1, -⟩
    · rw [h1] at h; cases h; rfl
    · rw [h1] at h; cases h
  · obtain ⟨m0, r0, l0, c0, f0, i1, i2⟩ := im_F A O k2 k5
    refine Or.inl ?_
    rcases im_at (ad := ad) (F := F) (q := q) (x := x) (mc := mc) (em := em) (t := t) i1 with h1 | ⟨h1, -⟩
    · rw [h1] at h; cases h; rfl
    · rw [h1] at h; cases h
/-- the second sofa takes the first one's state over; whatever it does then, the component is as before -/
theorem c_take {Q : Nat → sd_H → Nat × Nat → Prop} (C : CI G cx tp bt s0 E1 B Z q x ea sz bs h t) (b1 : 200 ≤ b.1) (b2 : 3400 ≤ b.2)
    (kk : ∀ n' ρ' K' ad' mc' em' cs' b', sA G n' ρ' K' ad' B q x em' cs' t → sO G n' ρ' K' Z B q x → wfH G (hSo G n' ρ' K' ad' B q x mc' em' t) → ad' 0 = B 0 → ad' 3 = B 1 → (∀ n'' ρ'' K'' ad'' mc'' em'' t'', XT n' ρ' K' ad' em' n'' ρ'' K'' ad'' em'' → sA G n'' ρ'' K'' ad'' B q x em'' cs' t'' → wfH G (hSo G n'' ρ'' K'' ad'' B q x mc'' em'' t'') → CI G cx tp bt s0 E1 B Z q x ea sz bs (hSo G n'' ρ'' K'' ad'' B q x mc'' em'' t'') t ∧ fr h (hSo G n'' ρ'' K'' ad'' B q x mc'' em'' t'') E1 (B 1)) → b.1 ≤ b'.1 + 200 → b.2 ≤ b'.2 + 3400 → Q (B 0) (hSo G n' ρ' K' ad' B q x mc' em' t) b') : wp (fX3_take G (B 0) s0) h b Q := by
  obtain ⟨w, Zk, h3, hd, c1, c2, c3, n, ρ, K, ad, F, mc, em, cs, R, rfl, A, O, H, D, rfl, rfl⟩ := C
  refine s_take A O hd w H D b1 b2 (fun h' b' ρ' ad' mc' em' cs' R' w' hn hv A' O' e0 e3 HL HR Hf Hn bb1 bb2 => ?_)
  rw [hv]
  refine kk _ _ _ _ _ _ _ _ A' O' (hv ▸ w') e0 e3 (fun n'' ρ'' K'' ad'' mc'' em'' t'' X A'' w'' => ?_) bb1 bb2
  obtain ⟨d1, d2, d3, d4⟩ := D
  obtain ⟨⟨i0, i1, v7, v8, v9, v10, v11, H0⟩, ⟨eB, H1, H1'⟩, H2, H3⟩ := H
  have hn : n ≤ h'.1 := hn
  have hn2 : n ≤ n'' := Nat.le_trans hn X.1.1
  -- kinds of the second sofa's cells
  have kd : ∀ {a : Nat} {e : sd_E}, (hSo G n ρ K ad F q x mc em t).2 a = some e → (∀ fs, e ≠ .inr (2, fs)) → (∀ z, e ≠ .inl (0, z)) → (∀ fs, e ≠ .inr (41, fs)) → ∀ k, k ≤ 5 → a ≠ B k := by
    intro a e ha k0 k1 k2 k hk ea
    rw [ea] at ha
    by_cases c0 : k = 0
    · subst c0
      rw [H0] at ha
      cases ha
      exact k0 _ rfl
    · by_cases c1 : k = 1
      · subst c1
        rw [H1] at ha
        cases ha
        exact k1 _ rfl
      · obtain ⟨m, sz, cap, f, l, -⟩ := H2 k (by omega) hk
        rw [l.1] at ha
        cases ha
        exact k2 _ rfl
  have kR : ∀ {a : Nat} {e : sd_E}, (hSo G n ρ K ad F q x mc em t).2 a = some e → (∀ z, e ≠ .inl (4, z)) → ∀ k, 2 ≤ k → k ≤ 5 → a ≠ R k := by
    intro a e ha k1 k k2 k5 ea
    obtain ⟨m, sz, cap, f, l, -⟩ := H2 k k2 k5
    rcases l.2.1 with ⟨l1, -⟩ | ⟨l1, -⟩
    · rw [ea, l1, (wfH_z0 w).1] at ha
      cases ha
    · rw [ea, l1] at ha
      cases ha
      exact k1 _ rfl
  -- what stays
  have st : ∀ a, a < n → a = sd_ad G 0 ∨ ((∀ k, k ≤ 5 → a ≠ B k) ∧ ∀ k, 2 ≤ k → k ≤ 5 → a ≠ R k) → (hSo G n'' ρ'' K'' ad'' B q x mc'' em'' t'').2 a = (hSo G n ρ K ad F q x mc em t).2 a := by
    intro a ha hp
    rcases hp with hp | ⟨hp1, hp2⟩
    · rw [hp, (wfH_z0 w'').1, (wfH_z0 w).1]
    · have hr : ρ' a = none := by
        refine Classical.byContradiction fun hne => ?_
        rcases Hn a hne with y | y | y
        · exact hp1 0 (by omega) y
        · exact hp1 1 (by omega) y
        · omega
      rw [X_same (mc := mc') (t := t) X (Nat.lt_of_lt_of_le ha hn) hr, ← hv]
      exact Hf a ha hp1 hp2
  have pF : ∀ k, 2 ≤ k → k ≤ 5 → F k = sd_ad G 0 ∨ ((∀ k', k' ≤ 5 → F k ≠ B k') ∧ ∀ k', 2 ≤ k' → k' ≤ 5 → F k ≠ R k') := by
    intro k k2 k5
    obtain ⟨m0, r0, l0, c0, f0, y1, y2⟩ := im_F A O k2 k5
    rcases im_at (ad := ad) (F := F) (q := q) (x := x) (mc := mc) (em := em) (t := t) y1 with z1 | ⟨z1, z2⟩
    · refine Or.inr ⟨fun k' hk' => ?_, kR z1 (fun _ e => by cases e)⟩
      by_cases c : 2 ≤ k'
      · exact (d3 k k' k2 k5 c hk').1
      · intro e
        rw [e] at z1
        have hk : k' = 0 ∨ k' = 1 := by omega
        rcases hk with rfl | rfl
        · rw [H0] at z1; cases z1
        · rw [H1] at z1; cases z1
    · have nn : ∀ {y : Nat} {e : sd_E}, (hSo G n ρ K ad F q x mc em t).2 y = some e → F k ≠ y := by
        intro y e hy ey
        rw [← ey, z1] at hy
        cases hy
      by_cases ca : F k = sd_ad G 0
      · exact Or.inl ca
      · refine Or.inr ⟨fun k' hk' => ?_, fun k' k2' k5' => ?_⟩
        · by_cases c : 2 ≤ k'
          · exact (d3 k k' k2 k5 c hk').1
          · have hk : k' = 0 ∨ k' = 1 := by omega
            rcases hk with rfl | rfl
            · exact nn H0
            · exact nn H1
        · obtain ⟨m, sz, cap, f, l, -⟩ := H2 k' k2' k5'
          rcases l.2.1 with ⟨l1, -⟩ | ⟨l1, -⟩
          · rw [l1]
            exact ca
          · exact nn l1
  have key := so_back (h' := hSo G n'' ρ'' K'' ad'' B q x mc'' em'' t'') w A O w'' hn2 (fun a => a = sd_ad G 0 ∨ ((∀ k, k ≤ 5 → a ≠ B k) ∧ ∀ k, 2 ≤ k → k ≤ 5 → a ≠ R k)) st (fun a i hr => Or.inr ⟨fun k hk e => ?_, fun k k2 k5 e => ?_⟩) (fun a d fs hi hd => ?_) (Or.inl rfl) (fun a k m l c f k2 k5 i1 i2 => ?_) pF (fun a ha => ?_)
  · obtain ⟨k1, k2, k3, k4⟩ := key
    have zs : ∀ a, Z a → a = sd_ad G 0 ∨ ((∀ k, k ≤ 5 → a ≠ B k) ∧ ∀ k, 2 ≤ k → k ≤ 5 → a ≠ R k) := by
      intro a ha
      by_cases ca : a = sd_ad G 0
      · exact Or.inl ca
      · refine Or.inr ⟨(d4 a ha).1, fun k k2 k5 e => ?_⟩
        rcases (d4 a ha).2 k k2 k5 with y | y
        · exact y e
        · exact ca (e.trans y)
    have kc : ∀ {a : Nat} {e : sd_E}, (hSo G n ρ K ad F q x mc em t).2 a = some e → isS e = false → (hSo G n'' ρ'' K'' ad'' B q x mc'' em'' t'').2 a = some e := by
      intro a e ha he
      rw [st a (w.1 _ _ ha).2 (Or.inr ⟨kd ha (fun _ e => by rw [e] at he; cases he) (fun _ e => by rw [e] at he; cases he) (fun _ e => by rw [e] at he; cases he), kR ha (fun _ e => by rw [e] at he; cases he)⟩)]
      exact ha
    have a0 : ad'' 0 = B 0 := (X.1.ad (by omega)).trans e0
    have a3 : ad'' 3 = B 1 := (X.1.ad (by omega)).trans e3
    have q26 : q 26 ≤ 24 := A.2.2.2.1.2.2.2.1
    refine ⟨⟨w'', fun a ha => ⟨Nat.lt_of_lt_of_le (Zk a ha).1 hn2, fun e he => ?_⟩, h3, hd, kc c1 rfl, kc c2 rfl, kc c3 rfl, _, ρ, _, ad, F, mc, em, cs, R', k1, k2, k3, ⟨⟨n3 (q 21), n3 (q 20), t''.1 4, t''.1 0, t''.1 1, t''.1 2, t''.1 3, ?_⟩, ⟨fun f => cnv (t''.2.2.2.2 f), ?_, fun j hj => ?_⟩, fun k k2 k5 => ?_, fun k k' k2 hk k5 => ⟨(H3 k k' k2 hk k5).1, HR k k' k2 hk k5⟩⟩, ⟨d1, fun k k2 k5 => ?_, fun k k' k2 k5 k2' k5' => ⟨(d3 k k' k2 k5 k2' k5').1, fun m r l hi => ?_⟩, fun a ha => ⟨(d4 a ha).1, fun k k2 k5 => ?_⟩⟩, rfl, rfl⟩, hn2, fun a e ha he n1 n2 => ?_⟩
    · rw [st a (Zk a ha).1 (zs a ha)] at he
      exact (Zk a ha).2 e he
    · have := nh_at (n := n'') (c := cS ad'' B q x (sd_ad G 0) mc'' em'' t'') (K := K'') (A''.1.1 0 (Or.inl rfl))
      rw [a0] at this
      rw [← a3]
      exact this
    · have := nh_at (n := n'') (c := cS ad'' B q x (sd_ad G 0) mc'' em'' t'') (K := K'') (A''.1.1 3 (Or.inr (Or.inl rfl)))
      rw [a3] at this
      exact this
    · show cnv (t''.2.2.2.2 j) = 0
      rw [(A''.2.2.2.2.2.2.2.2.2.1 j).2 (by omega)]
      rfl
    · obtain ⟨⟨m, sz, cap, f, l, l2⟩, r1, r2, -⟩ := HL k k2 k5
      refine ⟨m, sz, cap, f, ?_, l2⟩
      have s1 : (hSo G n'' ρ'' K'' ad'' B q x mc'' em'' t'').2 (B k) = h'.2 (B k) := by
        rw [X_same (mc := mc') (t := t) X (w'.1 _ _ l.1).2 r1, ← hv]
      refine ⟨s1.trans l.1, ?_, l.2.2⟩
      rcases l.2.1 with l1 | ⟨l1, l3⟩
      · exact Or.inl l1
      · refine Or.inr ⟨?_, l3⟩
        rw [X_same (mc := mc') (t := t) X (w'.1 _ _ l1).2 r2, ← hv]
        exact l1
    · rcases (HL k k2 k5).2.2.2 with y | y
      · rw [y]
        exact d2 k k2 k5
      · cases hr : ρ (R' k) with
        | none => rfl
        | some i =>
          have := A.1.2.2 _ _ hr
          omega
    · obtain ⟨m0, r0, l0, c0, f0, y1, y2⟩ := im_F A O k2 k5
      rw [aL_r (im_val hi (k4 _ _ (pF k k2 k5) y1))]
      rcases (HL k' k2' k5').2.2.2 with y | y
      · rw [y]
        exact (d3 k k' k2 k5 k2' k5').2 _ _ _ y1
      · have := im_lt y2
        exact Or.inl (by omega)
    · rcases (HL k k2 k5).2.2.2 with y | y
      · rw [y]
        exact (d4 a ha).2 k k2 k5
      · have : a < n := (Zk a ha).1
        exact Or.inl (by omega)
    · rw [st a (w.1 _ _ ha).2 (Or.inr ⟨fun k hk => ?_, kR ha (fun _ e => by rw [e] at he; cases he)⟩)]
      · exact ha
      · by_cases c : k = 1
        · rw [c]
          exact n2
        · intro ea
          rw [ea] at ha
          by_cases c0 : k = 0
          · rw [c0, H0] at ha
            cases ha
            cases he
          · obtain ⟨m, sz, cap, f, l, -⟩ := H2 k (by omega) hk
            rw [l.1] at ha
            cases ha
            cases he
  · rw [e, d1 k hk] at hr
    cases hr
  · rw [e, d2 k k2 k5] at hr
    cases hr
  · rcases im_at (ad := ad) (F := F) (q := q) (x := x) (mc := mc) (em := em) (t := t) hi with z1 | ⟨z1, z2⟩
    · exact Or.inr ⟨kd z1 (fun _ e => by rcases hd with rfl | rfl <;> cases e) (fun _ e => by cases e) (fun _ e => by rcases hd with rfl | rfl <;> cases e), kR z1 (fun _ e => by cases e)⟩
    · have nn : ∀ {y : Nat} {e : sd_E}, (hSo G n ρ K ad F q x mc em t).2 y = some e → a ≠ y := by
        intro y e hy ey
        rw [← ey, z1] at hy
        cases hy
      by_cases ca : a = sd_ad G 0
      · exact Or.inl ca
      · refine Or.inr ⟨fun k hk => ?_, fun k k2 k5 => ?_⟩
        · by_cases c : 2 ≤ k
          · obtain ⟨m, sz, cap, f, l, -⟩ := H2 k c hk
            exact nn l.1
          · have hk : k = 0 ∨ k = 1 := by omega
            rcases hk with rfl | rfl
            · exact nn H0
            · exact nn H1
        · obtain ⟨m, sz, cap, f, l, -⟩ := H2 k k2 k5
          rcases l.2.1 with ⟨l1, -⟩ | ⟨l1, -⟩
          · rw [l1]
            exact ca
          · exact nn l1
  · by_cases ca : a = sd_ad G 0
    · exact Or.inl ca
    · refine Or.inr ⟨?_, fun k' k2' k5' e => ?_⟩
      · rcases im_at (ad := ad) (F := F) (q := q) (x := x) (mc := mc) (em := em) (t := t) i2 with z1 | ⟨z1, z2⟩
        · exact kd z1 (fun _ e => by cases e) (fun _ e => by cases e) (fun _ e => by cases e)
        · intro k hk e
          have : ∃ e', (hSo G n ρ K ad F q x mc em t).2 (B k) = some e' := by
            by_cases c : 2 ≤ k
            · obtain ⟨m, sz, cap, f, l, -⟩ := H2 k c hk
              exact ⟨_, l.1⟩
            · have hk : k = 0 ∨ k = 1 := by omega
              rcases hk with rfl | rfl
              · exact ⟨_, H0⟩
              · exact ⟨_, H1⟩
          obtain ⟨e', he'⟩ := this
          rw [← e, z1] at he'
          cases he'
      · rcases (d3 k k' k2 k5 k2' k5').2 _ _ _ i1 with y | y
        · exact y e
        · exact ca (e.trans y)
  · by_cases ca : a = sd_ad G 0
    · exact Or.inl ca
    · refine Or.inr ⟨(d4 a ha).1, fun k k2 k5 e => ?_⟩
      rcases (d4 a ha).2 k k2 k5 with y | y
      · exact y e
      · exact ca (e.trans y)
end CK
