/-! THE PLAIN LAW: the second walk, from a new sofa on -/
section SF2
variable {G : sd_G} {u : Nat → Nat} {sz n0 n2 tl so m rd E0 : Nat} {ta tx : Nat → Nat} {w : Int32} {ky nd iv : Nat → Nat} {kt : Nat → List Nat} {F : Nat → Nat} {β b : Nat × Nat} {h : sd_H} {X : Nat → Nat → Int32} {L : List Ln} {Q : Unit ⊕ Nat → sd_H → Nat × Nat → Prop}
theorem w_sofa2 (w1 : w ≠ 0) (C : wlC G) (K : crC G) (I : icC G) (hrd : n0 ≤ rd) (h02 : n0 ≤ n2) (hsn : n0 ≤ so) (wf : wfH G h) (rc : RC G u sz n0 tl ta tx rd w so m 0 ky nd iv kt 0 0 h) (T : tlw n2 tl h) (h2h : n2 ≤ h.1) (mo : mow n0 m 0 nd h) (hso : h.2 so = some (aSo 6 4 F E0)) (hE0 : h.2 E0 = some (.inl (0, 24, .inl (fun _ => 0)))) (hF : ∀ k, 2 ≤ k → k ≤ 5 → h.2 (F k) = some (aL 0 (sd_ad G 0) 0) ∧ n2 ≤ F k) (hFd : ∀ k k', 2 ≤ k → k < k' → k' ≤ 5 → F k ≠ F k') (hX : ∀ c, c < 80 → X 30 c = -1 ∧ X 31 c = 0) (hp : pBook (kdT u sz) (vlT u sz) = .inl L) (hb : bud β b (50 * (nT u sz + 1) + 720))
    (kf : ∀ e t h' q b', lBook (kdT u sz) (nbT u sz) (nwT u sz) (q0S, (fun _ => 0), X) L = .inr (e, t) → h'.2 q = some (aFt (n3 e) (plT u sz t)) → wfH G h' → fz n0 h h' → bud β b' 0 → Q (.inr q) h' b')
    (kk : ∀ S TZ n4 ad mcs j h' b', lBook (kdT u sz) (nbT u sz) (nwT u sz) (q0S, (fun _ => 0), X) L = .inl S → W2 G u sz n0 tl ta tx rd w so m n2 n4 E0 F ad mcs TZ S (flO (kdT u sz) L) j h' → (∀ s s', s < s' → s' < S.1 20 → ad (10 + s) < ad (10 + s') ∧ ad (20 + s) < ad (20 + s')) → (∀ s, s < S.1 20 → h.1 ≤ ad (10 + s) ∧ h.1 ≤ ad (20 + s)) → fz n0 h h' → bud β b' 0 → Q (.inl ()) h' b') : wp (fX7_sofa G rd) h b Q := by
  have lN := nT_le (u := u) (sz := sz)
  have R : RW G u sz n0 tl ta tx rd w so m 0 ky nd iv kt h.1 0 0 h := RW_of wf rc
  have hn0 : n0 ≤ h.1 := by omega
  have rdh := RW_rdn R
  have Nh : ∀ a, nmA u sz tx a → a < h.1 := by
    rintro a ⟨j, j1, j2, rfl⟩
    obtain ⟨⟨v, hs, hz, g, e1, -⟩, -⟩ := (rc.1.2 j (by omega)).2.2 (by omega) (by omega)
    exact (wf.1 _ _ e1).2
  have ls0 : ∀ k, 2 ≤ k → k ≤ 5 → lsO G h (F k) 0 (sd_ad G 0) 0 0 (fun _ => none) := fun k k1 k2 => ⟨(hF k k1 k2).1, Or.inl ⟨rfl, rfl, rfl⟩, Nat.le_refl _, by omega⟩
  -- behind the first line: ns seats, st layers, at token j
  have go : ∀ (ns st j : Nat) (h1 : sd_H), 2 ≤ ns → ns ≤ 8 → 2 ≤ st → st ≤ 10 → j ≤ nT u sz → pBk (kdT u sz) (vlT u sz) 401 j = .inl L → lHd (kdT u sz) (nbT u sz) (q0S, (fun _ => 0), X) = .inl ((fun i => if i = 20 then ns else if i = 21 then st else 0), (fun _ => 0), X) → RW G u sz n0 tl ta tx rd w so m 0 ky nd iv kt h.1 j 0 h1 → h1.2 so = some (aSo (n3 st) (n3 ns) F E0) → lfr rd (nmA u sz tx) n0 (fun a => a = so) h h1 → h1.1 = h.1 → h1.2 m = h.2 m → wp (fX7_sofa_b45 G rd) h1 b Q := by
    intro ns st j h1 g1 g2 g3 g4 hj hpk hh R1 so1 fr nh1 mm1
    have keep : ∀ z d' fs, h.2 z = some (.inr (d', fs)) → d' ≠ 2 → d' ≠ 6 → d' ≠ 45 → isHm (.inr (d', fs)) = false → h1.2 z = some (.inr (d', fs)) := by
      intro z d' fs q1 q2 q3 q4 q5
      refine fr.2 _ _ q1 ?_ ?_ q5 ?_
      · rintro rfl
        rw [rc.2.1] at q1
        cases q1
        exact q3 rfl
      · intro q
        obtain ⟨v, hs', hz', e'⟩ := nmA_s rc.1 _ _ q q1
        cases e'
        exact q4 rfl
      · rintro rfl
        rw [hso] at q1
        cases q1
        exact q2 rfl
    have E1 : h1.2 E0 = some (.inl (0, 24, .inl (fun _ => 0))) := by
      refine fr.2 _ _ hE0 ?_ ?_ rfl ?_
      · intro q
        rw [q, rc.2.1] at hE0
        cases hE0
      · intro q
        obtain ⟨v, hs', hz', e'⟩ := nmA_s rc.1 _ _ q hE0
        cases e'
      · intro q
        rw [q, hso] at hE0
        cases hE0
    have F1 : ∀ k, 2 ≤ k → k ≤ 5 → h1.2 (F k) = some (aL 0 (sd_ad G 0) 0) := fun k k1 k2 => keep _ _ _ (hF k k1 k2).1 (by decide) (by decide) (by decide) rfl
    have rc1 := RW_in R1
    unfold fX7_sofa_b45
    rw [wp_bnd, (rd_rd rc1.2.1).2.2.2.1, wp_ite, if_neg w1, wp_bnd, (rd_rd rc1.2.1).2.2.2.2.1, wp_bnd, wp_isC (sd_look_new so1), wp_bnd]
    refine c_lay (x := X) (ns := ns) (st := st) (r20 := sd_ad G 0) (sz0 := 0) (cap := 0) (mc := 0) (f := fun _ => none) g2 (by omega) g4 (by omega) R1.1 so1 ⟨F1 2 (by omega) (by omega), Or.inl ⟨rfl, rfl, rfl⟩, Nat.le_refl _, by omega⟩ (fun s k hs hk => hX _ (by omega)) hb (by omega) (fun h2 b2 ad mcs w2 n2' St g5 g6 g7 g8 g9 g10 B2 => ?_)
    have z0 := wfH_z0 R1.1
    have kp2 : ∀ z e, h1.2 z = some e → z ≠ F 2 → h2.2 z = some e := by
      intro z e hz q
      rw [g10 z (R1.1.1 _ _ hz).2 q (fun q' => ?_)]
      · exact hz
      · rw [q', z0.1] at hz
        cases hz
    have n2F : ∀ z d' fs, h1.2 z = some (.inr (d', fs)) → d' ≠ 41 → z ≠ F 2 := by
      rintro z d' fs q1 q2 rfl
      rw [F1 2 (by omega) (by omega)] at q1
      cases q1
      exact q2 rfl
    have lF : ∀ k, 2 ≤ k → k ≤ 5 → F k < h.1 := fun k k1 k2 => (wf.1 _ _ (hF k k1 k2).1).2
    have tl1 : tlw n2 tl h1 := tlw_kp T rc.1 (fun mc r n q => keep _ _ _ q (by decide) (by decide) (by decide) rfl)
    have ntl : tl ≠ F 2 := by
      intro q
      have := (hF 2 (by omega) (by omega)).2
      have := T.1
      omega
    have rc2 : RC G u sz n0 tl ta tx rd w so m 0 ky nd iv kt j 0 h2 := by
      refine RC_kp rc1 (fun a e ha he => ?_) (fun mc r n q => ⟨kp2 _ _ q ntl, fun e he => ?_⟩)
      · refine kp2 a e ha ?_
        rintro rfl
        rw [F1 2 (by omega) (by omega)] at ha
        cases ha
        cases he
      · refine kp2 r e he ?_
        intro q'
        have := tl1.2 _ _ _ q
        have := (hF 2 (by omega) (by omega)).2
        omega
    have fz2 : fz n0 h h2 := by
      refine fr.1.trans ⟨by omega, fun a ha => ?_⟩
      have := (hF 2 (by omega) (by omega)).2
      by_cases c : a = sd_ad G 0
      · rw [c, z0.1, (wfH_z0 w2).1]
      · exact g10 a (by omega) (by omega) c
    have so2 : h2.2 so = some (aSo (n3 st) (n3 ns) F E0) := kp2 _ _ so1 (n2F _ _ _ so1 (by decide))
    have E2 : h2.2 E0 = some (.inl (0, 24, .inl (fun _ => 0))) := by
      refine kp2 _ _ E1 ?_
      rintro rfl
      rw [F1 2 (by omega) (by omega)] at E1
      cases E1
    have F2' : ∀ k, 3 ≤ k → k ≤ 5 → h2.2 (F k) = some (aL 0 (sd_ad G 0) 0) := fun k k1 k2 => kp2 _ _ (F1 k (by omega) k2) (fun q => hFd 2 k (by omega) (by omega) k2 q.symm)
    have m2 : h2.2 m = h.2 m := by
      obtain ⟨tb, mc', thr, fl, q1, -⟩ := rc1.2.2.1
      rw [← mm1, q1]
      exact kp2 _ _ q1 (n2F _ _ _ q1 (by decide))
    have tl2 : tlw n2 tl h2 := tlw_kp tl1 rc1.1 (fun mc r n q => kp2 _ _ q ntl)
    have F2c : ∃ mcx rx nx, h2.2 (F 2) = some (aL mcx rx nx) := by
      obtain ⟨⟨m', r, c, f, s1, -⟩, -⟩ := St
      exact ⟨m', r, ns, s1⟩
    have arlt : ∀ mm r n, h2.2 (F 2) = some (aL mm r n) → r < h2.1 ∧ n0 ≤ r := by
      intro mm r n q
      have gq := g5 _ _ _ q
      obtain ⟨⟨m', r', c, f, s1, s2, -⟩, -⟩ := St
      rw [s1] at q
      have er := aL_r (Option.some.inj q)
      subst er
      refine ⟨(w2.1 _ _ s2).2, ?_⟩
      rcases gq with q' | q'
      · rw [q', (wfH_z0 w2).1] at s2
        cases s2
      · omega
    rw [nh1] at n2' g6 g7
    have Wm : W2m G u sz n0 tl ta tx rd w so m n2 h2.1 E0 F ad mcs (fun _ => False) ((fun i => if i = 20 then ns else if i = 21 then st else 0), (fun _ => 0), X) [] ky nd iv kt j h2 := by
      refine ⟨w2, Nat.le_refl _, rc2, mow_eq mo m2, fun j hj => absurd hj (Nat.not_lt_zero _), fun j hj => absurd hj (Nat.not_lt_zero _), ⟨fun _ => sd_ad G 0, fun _ => 0, ⟨fun k k1 k2 => ⟨0, 0, fun _ => none, ⟨F2' k k1 k2, Or.inl ⟨rfl, rfl, rfl⟩, Nat.le_refl _, by omega⟩, (hF k (by omega) k2).2, Or.inl rfl, fun j hj => absurd hj (Nat.not_lt_zero _)⟩, fun k k' k1 k2 k3 => ⟨hFd k k' (by omega) k2 k3, fun _ => rfl⟩⟩, rfl, rfl, rfl, fun k _ _ => ⟨Or.inl rfl, fun q => q⟩⟩, tl2, so2, E2, St, ⟨by have := lF 2 (by omega) (by omega); omega, arlt⟩, ⟨hrd, by omega, h02, by omega, fun a ha => by have := Nh a ha; omega, fun k k1 k2 => by have := lF k k1 k2; omega, fun k k1 k2 => hFd 2 k (by omega) (by omega) k2, fun s hs => ⟨(w2.1 _ _ (St.2.1 s hs).1).2, (w2.1 _ _ (St.2.1 s hs).2).2, fun k k1 k2 => by have := (g6 s hs).1; have := lF k (by omega) k2; omega⟩, fun s k hs hk => by have := g7 s k hs hk; omega, fun s s' k k' hs hs' hk hk' q => ?_⟩, rfl, (fun l hl => by cases hl), ⟨g1, g2⟩, ⟨g3, g4⟩, Nat.zero_le _, Nat.zero_le _, Nat.zero_le _, fun a q => q.elim⟩
      rcases Nat.lt_trichotomy s s' with c | c | c
      · have := (g8 s s' c hs').2.2 k k' hk hk'
        omega
      · subst c
        rcases Nat.lt_trichotomy k k' with d | d | d
        · have := g9 s k k' hs d hk'
          omega
        · exact ⟨rfl, d⟩
        · have := g9 s k' k hs d hk
          omega
      · have := (g8 s' s c hs).2.2 k' k hk' hk
        omega
    have lb : ∀ y, lAll (kdT u sz) (nbT u sz) (nwT u sz) ((fun i => if i = 20 then ns else if i = 21 then st else 0), (fun _ => 0), X) L = y → lBook (kdT u sz) (nbT u sz) (nwT u sz) (q0S, (fun _ => 0), X) L = y := by
      intro y hy
      unfold lBook
      rw [hh]
      exact hy
    refine w_lines2 w1 C K I hrd 401 j _ [] (fun _ => False) L h2 b2 sd_FU hj hpk ⟨ky, nd, iv, kt, Wm⟩ (bud_le B2 (by omega)) (by unfold sd_FU; omega) (fun e t h' q b' p1 p2 p3 p4 p5 => kf e t h' q b' (lb _ p1) p2 p3 (fz2.trans p4) p5) (fun S TZ j' h' b' p1 p2 p3 p4 => ?_)
    obtain ⟨q20, q21⟩ := lAll_q _ _ _ p1
    have q20 : S.1 20 = ns := q20
    refine kk S TZ h2.1 ad mcs j' h' b' (lb _ p1) p2 (fun s s' c1 c2 => ?_) (fun s hs => g6 s (by omega)) (fz2.trans p3) p4
    have := g8 s s' c1 (by omega)
    exact ⟨this.1, this.2.1⟩
  have pe0 : kdT u sz 0 ≠ 0 → pBk (kdT u sz) (vlT u sz) 401 0 = .inl L := by
    intro c0
    unfold pBook pHd at hp
    rw [if_neg c0] at hp
    exact hp
  have pe5 : kdT u sz 0 = 0 → kdT u sz 1 = 31 ∧ kdT u sz 2 = 1 ∧ kdT u sz 3 = 31 ∧ kdT u sz 4 = 59 ∧ pBk (kdT u sz) (vlT u sz) 401 5 = .inl L := by
    intro c0
    unfold pBook pHd at hp
    rw [if_pos c0, tmp_41] at hp
    by_cases c1 : kdT u sz 1 = 31
    · rw [if_pos c1] at hp
      by_cases c2 : kdT u sz 2 = 1
      · rw [if_pos c2] at hp
        by_cases c3 : kdT u sz 3 = 31
        · rw [if_pos c3] at hp
          by_cases c4 : kdT u sz 4 = 59
          · rw [if_pos c4] at hp
            exact ⟨c1, c2, c3, c4, hp⟩
          · rw [if_neg c4] at hp
            cases hp
        · rw [if_neg c3] at hp
          cases hp
      · rw [if_neg c2] at hp
        cases hp
    · rw [if_neg c1] at hp
      cases hp
  have lb : ∀ e, lHd (kdT u sz) (nbT u sz) (q0S, (fun _ => 0), X) = .inr e → lBook (kdT u sz) (nbT u sz) (nwT u sz) (q0S, (fun _ => 0), X) L = .inr e := by
    intro e q
    unfold lBook
    rw [q]
  refine w_head (E := fun er t => ∃ e, er = n3 e ∧ lBook (kdT u sz) (nbT u sz) (nwT u sz) (q0S, (fun _ => 0), X) L = .inr (e, t)) C R hrd hn0 hso hsn hb (by omega) (fun er t h' q b' q1 q2 q3 q4 q5 => ?_) (fun c0 q => absurd (pe5 c0).1 q) (fun c0 _ _ q => ⟨5, rfl, lb _ ?_⟩) (fun c0 _ q => absurd (pe5 c0).2.1 q) (fun c0 _ _ q => absurd (pe5 c0).2.2.1 q) (fun c0 _ q1 q => ⟨5, rfl, lb _ ?_⟩) (fun c0 _ _ _ q => absurd (pe5 c0).2.2.2.1 q) (fun c0 => ?_) (fun h1 c0 c1 c2 c3 c4 pr h5 R1 s1 fr nh1 mm1 => ?_)
  · obtain ⟨e, rfl, q1⟩ := q1
    exact kf e t h' q b' q1 q2 q3 q4 q5
  · unfold lHd
    rw [if_pos c0, if_pos q]
  · unfold lHd
    rw [if_pos c0, if_neg (by omega), if_pos q]
  · refine go 4 6 0 h (by omega) (by omega) (by omega) (by omega) (Nat.zero_le _) (pe0 c0) ?_ R hso ⟨fz.refl, fun a e q1 _ _ _ _ => q1⟩ rfl rfl
    unfold lHd
    rw [if_neg c0]
    rfl
  · obtain ⟨g1, g2, g3, g4⟩ := pr.resolve_left w1
    refine go (nbT u sz 1) (nbT u sz 3) 5 h1 g1 g2 g3 g4 h5 (pe5 c0).2.2.2.2 ?_ R1 s1 fr nh1 mm1
    unfold lHd
    rw [if_pos c0, if_neg (by omega), if_neg (by omega)]
    congr 1
    refine Prod.ext (funext fun i => ?_) rfl
    show updN (updN q0S 20 (nbT u sz 1)) 21 (nbT u sz 3) i = if i = 20 then nbT u sz 1 else if i = 21 then nbT u sz 3 else 0
    by_cases i20 : i = 20
    · subst i20
      rfl
    · by_cases i21 : i = 21
      · subst i21
        rfl
      · rw [updN_ne i21, updN_ne i20, if_neg i20, if_neg i21]
        unfold q0S
        rw [if_neg i20, if_neg i21]
end SF2
