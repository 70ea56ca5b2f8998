/-! THE PLAIN LAW: the first walk -/
section WK1
variable {G : sd_G} {u : Nat → Nat} {sz n0 n1 tl so m rd k : Nat} {ta tx : Nat → Nat} {w : Int32} {ky nd iv : Nat → Nat} {kt : Nat → List Nat} {β b : Nat × Nat} {h h' : sd_H} {i d v n2 E0 : Nat} {F : Nat → Nat}
theorem w_lines1 (w0 : w = 0) (C : wlC G) (K : crC G) (I : icC G) (hiv : ∀ j, j < k → sd_c G (iv j) = some (.inr (47, [.int (n3 j)]))) (hrd : n0 ≤ rd) (h02 : n0 ≤ n2) {Q : Unit ⊕ Nat → sd_H → Nat × Nat → Prop} : ∀ (f i : Nat) (h : sd_H) (b : Nat × Nat) (fuel : Nat), i ≤ nT u sz → W1 G u sz n0 tl ta tx rd w so m k ky nd iv kt n2 E0 F i h → bud β b (50 * (nT u sz + 1 - i)) → nT u sz - i < f → nT u sz - i < fuel →
    (∀ t h' q b', pBk (kdT u sz) (vlT u sz) f i = .inr t → h'.2 q = some (aFt 1 (plT u sz t)) → wfH G h' → fz n0 h h' → bud β b' 0 → Q (.inr q) h' b') →
    (∀ L j h' b', pBk (kdT u sz) (vlT u sz) f i = .inl L → W1 G u sz n0 tl ta tx rd w so m k ky nd iv kt n2 E0 F j h' → fz n0 h h' → bud β b' 0 → Q (.inl ()) h' b') → wp (sd_loop (fun k s => fX7_sofa_b60 G k s) fuel rd) h b Q := by
  intro f
  induction f with
  | zero => intro i h b fuel _ _ _ q; omega
  | succ f ih =>
    intro i h b fuel hi W hb hf hfu kf kk
    cases fuel with
    | zero => omega
    | succ fuel =>
      have R : RW G u sz n0 tl ta tx rd w so m k ky nd iv kt h.1 i 0 h := RW_of W.1 W.2.1
      show wp (fX7_sofa_b60 G (sd_loop (fun k s => fX7_sofa_b60 G k s) fuel) rd) h b Q
      unfold fX7_sofa_b60
      rw [wp_bnd, w_isC R, wp_bnd, c_now (RW_in R).1 (RW_in R).2.1 hi, wp_bnd, (tk_rd (RW_in R).1 hi).1, wp_ite]
      by_cases e : kdT u sz i = 33
      · rw [if_pos ((srt_eq C.1 _).2.1.mpr e), wp_ret]
        exact kk [] i h b (by simp only [pBk]; rw [if_pos e]) W fz.refl (bud_le hb (Nat.zero_le _))
      · rw [if_neg (fun q => e ((srt_eq C.1 _).2.1.mp q)), wp_bnd, w_isC R, wp_bx]
        refine w_line1 w0 C K I hiv hrd h02 W hi hb (Nat.le_refl _) (fun t h' q b' q1 q2 q3 q4 q5 => ?_) (fun l h1 b1 q1 q2 q3 W1' f1 B1 => ?_)
        · show wp (sd_ret (.inr q)) h' b' Q
          rw [wp_ret]
          exact kf t h' q b' (by simp only [pBk]; rw [if_neg e, q1]) q2 q3 q4 q5
        · have R1 : RW G u sz n0 tl ta tx rd w so m k ky nd iv kt h1.1 l.2.1 0 h1 := RW_of W1'.1 W1'.2.1
          have hn1 : n0 ≤ h1.1 := by
            have := RW_rdn R1
            omega
          show wp (sd_bnd (sd_isC G 6 rd) _) h1 b1 Q
          refine w_tk (E := fun er t => er = 1 ∧ pBk (kdT u sz) (vlT u sz) (f + 1) i = .inr t) C R1 hrd hn1 q3 (n := 105) (c := 59) (by decide) B1 (by omega) (fun er t h' q b' p1 p2 p3 p4 p5 => ?_) (fun e59 => ⟨rfl, ?_⟩) (fun h2 e59 R2 X2 nh2 => ?_)
          · obtain ⟨rfl, p1⟩ := p1
            exact kf t h' q b' p1 p2 p3 (f1.trans p4) p5
          · simp only [pBk]
            rw [if_neg e, q1]
            show (if kdT u sz l.2.1 = 59 then _ else (Sum.inr l.2.1 : List Ln ⊕ Nat)) = _
            rw [if_neg e59]
          · have hj : l.2.1 + 1 ≤ nT u sz := tk_lt31 q3 e59 (by decide) (by decide)
            have pe : ∀ y, (match pBk (kdT u sz) (vlT u sz) f (l.2.1 + 1) with
              | .inr j => .inr j
              | .inl L => .inl (l :: L)) = y → pBk (kdT u sz) (vlT u sz) (f + 1) i = y := by
              intro y hy
              simp only [pBk]
              rw [if_neg e, q1]
              show (if kdT u sz l.2.1 = 59 then _ else (Sum.inr l.2.1 : List Ln ⊕ Nat)) = _
              rw [if_pos e59]
              exact hy
            have f2 := fz_xf R1 hrd hn1 X2
            refine ih (l.2.1 + 1) h2 b1 fuel hj (W1_xf R1 hrd hn1 W1' X2 R2 (Nat.le_succ _)) (bud_le B1 (by omega)) (by omega) (by omega) (fun t h' q b' p1 p2 p3 p4 p5 => ?_) (fun L j h' b' p1 p2 p3 p4 => ?_)
            · exact kf t h' q b' (pe _ (by rw [p1])) p2 p3 (f1.trans (f2.trans p4)) p5
            · exact kk (l :: L) j h' b' (pe _ (by rw [p1])) p2 (f1.trans (f2.trans p3)) p4
theorem tmp_41 {κ : Nat → Nat} {a b c d : Nat} : tmp κ 1 [a, b, c, d] = if κ 1 = a then (if κ 2 = b then (if κ 3 = c then (if κ 4 = d then .inl 5 else .inr 4) else .inr 3) else .inr 2) else .inr 1 := rfl
/-- the first line: how many seats and layers -/
theorem w_head {E : Int32 → Nat → Prop} {st ns : Int32} {Q : Unit ⊕ Nat → sd_H → Nat × Nat → Prop} (C : wlC G) (R : RW G u sz n0 tl ta tx rd w so m k ky nd iv kt n1 0 0 h) (hrd : n0 ≤ rd) (hn0 : n0 ≤ h.1) (hso : h.2 so = some (aSo st ns F E0)) (hsn : n0 ≤ so) (hb : bud β b v) (hv : 1 ≤ v) (kf : FL G u sz n0 E h β Q)
    (e1 : kdT u sz 0 = 0 → kdT u sz 1 ≠ 31 → E 1 1) (e2 : kdT u sz 0 = 0 → kdT u sz 1 = 31 → w ≠ 0 → (nbT u sz 1 < 2 ∨ 8 < nbT u sz 1) → E 5 1) (e3 : kdT u sz 0 = 0 → kdT u sz 1 = 31 → kdT u sz 2 ≠ 1 → E 1 2) (e4 : kdT u sz 0 = 0 → kdT u sz 1 = 31 → kdT u sz 2 = 1 → kdT u sz 3 ≠ 31 → E 1 3) (e5 : kdT u sz 0 = 0 → w ≠ 0 → (2 ≤ nbT u sz 1 ∧ nbT u sz 1 ≤ 8) → (nbT u sz 3 < 2 ∨ 10 < nbT u sz 3) → E 5 3) (e6 : kdT u sz 0 = 0 → kdT u sz 1 = 31 → kdT u sz 2 = 1 → kdT u sz 3 = 31 → kdT u sz 4 ≠ 59 → E 1 4)
    (kN : kdT u sz 0 ≠ 0 → wp (fX7_sofa_b45 G rd) h b Q)
    (kY : ∀ h', kdT u sz 0 = 0 → kdT u sz 1 = 31 → kdT u sz 2 = 1 → kdT u sz 3 = 31 → kdT u sz 4 = 59 → (w = 0 ∨ (2 ≤ nbT u sz 1 ∧ nbT u sz 1 ≤ 8 ∧ 2 ≤ nbT u sz 3 ∧ nbT u sz 3 ≤ 10)) → 5 ≤ nT u sz → RW G u sz n0 tl ta tx rd w so m k ky nd iv kt n1 5 0 h' → h'.2 so = some (aSo (n3 (nbT u sz 3)) (n3 (nbT u sz 1)) F E0) → lfr rd (nmA u sz tx) n0 (fun a => a = so) h h' → h'.1 = h.1 → h'.2 m = h.2 m → wp (fX7_sofa_b45 G rd) h' b Q) : wp (fX7_sofa G rd) h b Q := by
  obtain ⟨tbM, mcM, thrM, flM, hM0, -⟩ := (RW_in R).2.2.1
  have mso : m ≠ so := by
    rintro rfl
    rw [hso] at hM0
    cases hM0
  unfold fX7_sofa
  rw [wp_bnd, w_isC R, wp_bnd]
  refine w_tif C R (Nat.zero_le _) (n := 103) (c := 0) (by decide) (fun h1 c0 R1 X1 nh1 => ?_) (fun c0 => by rw [wp_ite, if_pos rfl]; exact kN c0)
  have hi1 : 1 ≤ nT u sz := tk_lt31 (Nat.zero_le _) c0 (by decide) (by decide)
  have so1 := xf_o R X1 hso (by decide) (by decide)
  rw [wp_ite, if_neg (by decide), wp_bnd, (rd_rd (RW_in R1).2.1).2.2.2.2.1]
  refine w_num C R1 hrd (by omega) hi1 hb hv (FL_fz kf (fz_xf R hrd hn0 X1)) (e1 c0) (fun q1 q2 q3 => ?_) (fun h2 c1 p1 R2 X2 nh2 => ?_)
  · have nb1 : nbT u sz 1 < 1000000 := (kd_nw (tk_lt31 hi1 q1 (by decide) (by decide))).1 q1
    rw [show (2 : Int32) = n3 2 from rfl, show (8 : Int32) = n3 8 from rfl] at q3
    have q3 : ¬ (¬ n3 (nbT u sz 1) < n3 2 ∧ ¬ n3 8 < n3 (nbT u sz 1)) := q3
    rw [n3_rng nb1 (by decide) (by decide)] at q3
    exact e2 c0 q1 q2 (by omega)
  have hi2 : 2 ≤ nT u sz := tk_lt31 hi1 c1 (by decide) (by decide)
  have nb1 : nbT u sz 1 < 1000000 := (kd_nw hi2).1 c1
  have p1 : w = 0 ∨ (2 ≤ nbT u sz 1 ∧ nbT u sz 1 ≤ 8) := by
    rcases p1 with q | q
    · exact Or.inl q
    · have q : (¬ n3 (nbT u sz 1) < n3 2 ∧ ¬ n3 8 < n3 (nbT u sz 1)) := q
      rw [n3_rng nb1 (by decide) (by decide)] at q
      exact Or.inr q
  have X02 := X1.trans X2
  have so2 := xf_o R X02 hso (by decide) (by decide)
  rw [wp_bnd, wp_put so2 (Nat.le_of_ble_eq_true rfl) rfl rfl]
  show wp _ (sd_up h2 so (aSo st (n3 (nbT u sz 1)) F E0)) b Q
  have R3 : RW G u sz n0 tl ta tx rd w so m k ky nd iv kt n1 2 0 (sd_up h2 so (aSo st (n3 (nbT u sz 1)) F E0)) := RW_os R2 so2 rfl (by decide)
  have so3 := up_at h2 so (aSo st (n3 (nbT u sz 1)) F E0)
  have fr3 : lfr rd (nmA u sz tx) n0 (fun a => a = so) h (sd_up h2 so (aSo st (n3 (nbT u sz 1)) F E0)) := ⟨(fz_xf R hrd hn0 X02).trans (fz_up hsn), fun a e q1 q2 q3 _ q4 => (up_ne q4).trans (X02.2.1 a e q1 q2 q3)⟩
  have nh3 : (sd_up h2 so (aSo st (n3 (nbT u sz 1)) F E0)).1 = h.1 := by show h2.1 = h.1; omega
  have mm3 : (sd_up h2 so (aSo st (n3 (nbT u sz 1)) F E0)).2 m = h.2 m := by
    rw [up_ne mso, hM0]
    exact xf_o R X02 hM0 (by decide) (by decide)
  generalize sd_up h2 so (aSo st (n3 (nbT u sz 1)) F E0) = h3 at R3 so3 fr3 nh3 mm3 ⊢
  rw [wp_bnd, (rd_rd (RW_in R3).2.1).2.2.2.2.1]
  refine w_numOf C R3 hrd (by omega) hi2 (n := 104) (c := 1) (by decide) hb hv (FL_fz kf fr3.1) (e3 c0 c1) (fun q1 q2 => e4 c0 c1 q1 q2) (fun q1 q2 q3 q4 => ?_) (fun h4 c2 c3 p3 R4 X4 nh4 => ?_)
  · have nb3 : nbT u sz 3 < 1000000 := (kd_nw (tk_lt31 (tk_lt31 hi2 q1 (by decide) (by decide)) q2 (by decide) (by decide))).1 q2
    have q4 : ¬ (¬ n3 (nbT u sz 3) < n3 2 ∧ ¬ n3 10 < n3 (nbT u sz 3)) := q4
    rw [n3_rng nb3 (by decide) (by decide)] at q4
    exact e5 c0 q3 (p1.resolve_left q3) (by omega)
  have hi3 : 3 ≤ nT u sz := tk_lt31 hi2 c2 (by decide) (by decide)
  have hi4 : 4 ≤ nT u sz := tk_lt31 hi3 c3 (by decide) (by decide)
  have nb3 : nbT u sz 3 < 1000000 := (kd_nw hi4).1 c3
  have p3 : w = 0 ∨ (2 ≤ nbT u sz 3 ∧ nbT u sz 3 ≤ 10) := by
    rcases p3 with q | q
    · exact Or.inl q
    · have q : (¬ n3 (nbT u sz 3) < n3 2 ∧ ¬ n3 10 < n3 (nbT u sz 3)) := q
      rw [n3_rng nb3 (by decide) (by decide)] at q
      exact Or.inr q
  have so4 := xf_o R3 X4 so3 (by decide) (by decide)
  rw [wp_bnd, wp_put so4 (Nat.le_of_ble_eq_true rfl) rfl rfl]
  show wp _ (sd_up h4 so (aSo (n3 (nbT u sz 3)) (n3 (nbT u sz 1)) F E0)) b Q
  have R5 : RW G u sz n0 tl ta tx rd w so m k ky nd iv kt n1 4 0 (sd_up h4 so (aSo (n3 (nbT u sz 3)) (n3 (nbT u sz 1)) F E0)) := RW_os R4 so4 rfl (by decide)
  have so5 := up_at h4 so (aSo (n3 (nbT u sz 3)) (n3 (nbT u sz 1)) F E0)
  have fr5 : lfr rd (nmA u sz tx) n0 (fun a => a = so) h (sd_up h4 so (aSo (n3 (nbT u sz 3)) (n3 (nbT u sz 1)) F E0)) := ⟨fr3.1.trans ((fz_xf R3 hrd (by omega) X4).trans (fz_up hsn)), fun a e q1 q2 q3 q5 q4 => (up_ne q4).trans (X4.2.1 a e (fr3.2 a e q1 q2 q3 q5 q4) q2 q3)⟩
  have nh5 : (sd_up h4 so (aSo (n3 (nbT u sz 3)) (n3 (nbT u sz 1)) F E0)).1 = h.1 := by show h4.1 = h.1; omega
  have mm5 : (sd_up h4 so (aSo (n3 (nbT u sz 3)) (n3 (nbT u sz 1)) F E0)).2 m = h.2 m := by
    rw [up_ne mso, hM0]
    exact xf_o R3 X4 (mm3.trans hM0) (by decide) (by decide)
  generalize sd_up h4 so (aSo (n3 (nbT u sz 3)) (n3 (nbT u sz 1)) F E0) = h5 at R5 so5 fr5 nh5 mm5 ⊢
  refine w_tk C R5 hrd (by omega) hi4 (n := 105) (c := 59) (by decide) hb hv (FL_fz kf fr5.1) (e6 c0 c1 c2 c3) (fun h6 c4 R6 X6 nh6 => ?_)
  refine kY h6 c0 c1 c2 c3 c4 ?_ (tk_lt31 hi4 c4 (by decide) (by decide)) R6 (xf_o R5 X6 so5 (by decide) (by decide)) ⟨fr5.1.trans (fz_xf R5 hrd (by omega) X6), fun a e q1 q2 q3 q5 q4 => X6.2.1 a e (fr5.2 a e q1 q2 q3 q5 q4) q2 q3⟩ (by omega) (by rw [hM0]; exact xf_o R5 X6 (mm5.trans hM0) (by decide) (by decide))
  rcases p1 with q | q
  · exact Or.inl q
  · rcases p3 with q' | q'
    · exact Or.inl q'
    · exact Or.inr ⟨q.1, q.2, q'.1, q'.2⟩
/-- the first walk: only the form is looked at -/
theorem w_sofa1 (w0 : w = 0) (C : wlC G) (K : crC G) (I : icC G) (hiv : ∀ j, j < k → sd_c G (iv j) = some (.inr (47, [.int (n3 j)]))) (hrd : n0 ≤ rd) (h02 : n0 ≤ n2) (hsn : n0 ≤ so) {Q : Unit ⊕ Nat → sd_H → Nat × Nat → Prop} (W : W1 G u sz n0 tl ta tx rd w so m k ky nd iv kt n2 E0 F 0 h) (hb : bud β b (50 * (nT u sz + 1)))
    (kf : ∀ t h' q b', pBook (kdT u sz) (vlT u sz) = .inr t → h'.2 q = some (aFt 1 (plT u sz t)) → wfH G h' → fz n0 h h' → bud β b' 0 → Q (.inr q) h' b')
    (kk : ∀ L j h' b', pBook (kdT u sz) (vlT u sz) = .inl L → W1 G u sz n0 tl ta tx rd w so m k ky nd iv kt n2 E0 F j h' → fz n0 h h' → bud β b' 0 → Q (.inl ()) h' b') : wp (fX7_sofa G rd) h b Q := by
  have lN := nT_le (u := u) (sz := sz)
  have R : RW G u sz n0 tl ta tx rd w so m k ky nd iv kt h.1 0 0 h := RW_of W.1 W.2.1
  have hn0 : n0 ≤ h.1 := by
    have := RW_rdn R
    omega
  have W' := W
  obtain ⟨w1, w2, w3, w4, ⟨st, ns, w5⟩, rr, sz', w6, w7⟩ := W'
  have e45 : ∀ (j : Nat) (h' : sd_H) (b' : Nat × Nat) (Q' : Unit ⊕ Nat → sd_H → Nat × Nat → Prop), RC G u sz n0 tl ta tx rd w so m k ky nd iv kt j 0 h' → wp (fX7_sofa_b45 G rd) h' b' Q' = wp (sd_loop (fun k s => fX7_sofa_b60 G k s) sd_FU rd) h' b' Q' := by
    intro j h' b' Q' R'
    unfold fX7_sofa_b45
    rw [wp_bnd, (rd_rd R'.2.1).2.2.2.1, wp_ite, if_pos w0]
  have hd : ∀ t, pHd (kdT u sz) = .inr t → pBook (kdT u sz) (vlT u sz) = .inr t := by
    intro t q
    unfold pBook
    rw [q]
  have h0 : ∀ y, kdT u sz 0 = 0 → tmp (kdT u sz) 1 [31, 1, 31, 59] = y → pHd (kdT u sz) = y := by
    intro y q q2
    unfold pHd
    rw [if_pos q]
    exact q2
  refine w_head (E := fun er t => er = 1 ∧ pBook (kdT u sz) (vlT u sz) = .inr t) C R hrd hn0 w5 hsn hb (by omega) (fun er t h' q b' q1 q2 q3 q4 q5 => ?_) (fun q1 q2 => ⟨rfl, hd _ (h0 _ q1 (by rw [tmp_41, if_neg q2]))⟩) (fun _ _ q => absurd w0 q) (fun q1 q2 q3 => ⟨rfl, hd _ (h0 _ q1 (by rw [tmp_41, if_pos q2, if_neg q3]))⟩) (fun q1 q2 q3 q4 => ⟨rfl, hd _ (h0 _ q1 (by rw [tmp_41, if_pos q2, if_pos q3, if_neg q4]))⟩) (fun _ q => absurd w0 q) (fun q1 q2 q3 q4 q5 => ⟨rfl, hd _ (h0 _ q1 (by rw [tmp_41, if_pos q2, if_pos q3, if_pos q4, if_neg q5]))⟩) (fun c0 => ?_) (fun h1 c0 c1 c2 c3 c4 _ h5 R1 s1 fr nh1 mm1 => ?_)
  · obtain ⟨rfl, q1⟩ := q1
    exact kf t h' q b' q1 q2 q3 q4 q5
  · have pe : pBook (kdT u sz) (vlT u sz) = pBk (kdT u sz) (vlT u sz) 401 0 := by
      unfold pBook pHd
      rw [if_neg c0]
    rw [e45 0 h b Q w2]
    refine w_lines1 w0 C K I hiv hrd h02 401 0 h b sd_FU (Nat.zero_le _) W (bud_le hb (by omega)) (by omega) (by unfold sd_FU; omega) (fun t h' q b' p1 p2 p3 p4 p5 => kf t h' q b' (by rw [pe]; exact p1) p2 p3 p4 p5) (fun L j h' b' p1 p2 p3 p4 => kk L j h' b' (by rw [pe]; exact p1) p2 p3 p4)
  · have pe : pBook (kdT u sz) (vlT u sz) = pBk (kdT u sz) (vlT u sz) 401 5 := by
      unfold pBook
      rw [h0 _ c0 (by rw [tmp_41, if_pos c1, if_pos c2, if_pos c3, if_pos c4])]
    have hM : ∀ z, z = so → ∀ d fs, h.2 z = some (.inr (d, fs)) → d = 2 := by
      rintro z rfl d fs q
      rw [w5] at q
      cases q
      rfl
    -- the world behind the first line
    have nso : ∀ z d' fs, h.2 z = some (.inr (d', fs)) → d' ≠ 2 → z ≠ so := by
      rintro z d' fs q1 q2 rfl
      exact q2 (hM _ rfl _ _ q1)
    have keep : ∀ z d' fs, h.2 z = some (.inr (d', fs)) → d' ≠ 2 → d' ≠ 6 → d' ≠ 45 → isHm (.inr (d', fs)) = false → h1.2 z = some (.inr (d', fs)) := by
      intro z d' fs q1 q2 q3 q4 q5
      refine fr.2 _ _ q1 ?_ ?_ q5 (nso _ _ _ q1 q2)
      · rintro rfl
        rw [w2.2.1] at q1
        cases q1
        exact q3 rfl
      · intro q
        obtain ⟨v, hs', hz', e'⟩ := nmA_s w2.1 _ _ q q1
        cases e'
        exact q4 rfl
    have W1' : W1 G u sz n0 tl ta tx rd w so m k ky nd iv kt n2 E0 F 5 h1 := by
      refine ⟨R1.1, RW_in R1, tlw_kp w3 w2.1 (fun mc r n q => keep _ _ _ q (by decide) (by decide) (by decide) rfl), mow_eq w4 mm1, ⟨_, _, s1⟩, rr, sz', LL_same w1 w2 w6 fr (by rintro z rfl; exact ⟨2, _, w5, by decide⟩) (fun k j o _ _ _ E => EL1_kp w2 fr (fun z hz d fs q => Or.inr (Or.inr (hM z hz d fs q))) E), fun k k1 k2 => Nat.le_trans (w7 k k1 k2) (Nat.zero_le _)⟩
    rw [e45 5 h1 b Q (RW_in R1)]
    refine w_lines1 w0 C K I hiv hrd h02 401 5 h1 b sd_FU h5 W1' (bud_le hb (by omega)) (by omega) (by unfold sd_FU; omega) (fun t h' q b' p1 p2 p3 p4 p5 => kf t h' q b' (by rw [pe]; exact p1) p2 p3 (fr.1.trans p4) p5) (fun L j h' b' p1 p2 p3 p4 => kk L j h' b' (by rw [pe]; exact p1) p2 (fr.1.trans p3) p4)
end WK1
