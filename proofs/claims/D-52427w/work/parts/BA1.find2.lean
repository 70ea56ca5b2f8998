/-! THE PLAIN LAW: a line of a find or of a spring, raw, all of it -/
section LF2
variable {G : sd_G} {u : Nat → Nat} {sz n0 n1 tl so m rd k : Nat} {ta tx : Nat → Nat} {w : Int32} {ky nd iv : Nat → Nat} {kt : Nat → List Nat} {β b : Nat × Nat} {h h' : sd_H} {i d v n2 : Nat} {x : Nat → Nat → Int32} {ad : Nat → Nat} {mcs : Nat → Int32}
/-- behind the place -/
theorem w_finT {E0 r sz' cap cu : Nat} {st ns mc z0 z1 z2 z3 : Int32} {F : Nat → Nat} {f : Nat → Option Nat} {co : Bool} {E : Int32 → Nat → Prop} {Q : Unit ⊕ Nat → sd_H → Nat × Nat → Prop} (C : wlC G) (hiv : ∀ j, j < k → sd_c G (iv j) = some (.inr (47, [.int (n3 j)]))) (R : RW G u sz n0 tl ta tx rd w so m k ky nd iv kt n1 (i + 5) d h) (hrd : n0 ≤ rd) (hn0 : n0 ≤ h.1) (h02 : n0 ≤ n2) (T : tlw n2 tl h) (hi : i + 5 ≤ nT u sz) (hso : h.2 so = some (aSo st ns F E0)) (L : lsO G h (F 4) mc r sz' cap f) (ha : n2 ≤ F 4) (hr : r = sd_ad G 0 ∨ n2 ≤ r) (hsz : sz' ≤ 400) (hel : ∀ j, j < sz' → sd_okQ G h 4 (f j) = true) (mo : mow n0 m k nd h) (hc : h.2 cu = some (.inr (3, [.int z0, .int z1, .int z2, .int z3]))) (hcn : n0 ≤ cu) (hb : bud β b v) (hv : 60 ≤ v) (kf : FL G u sz n0 E h β Q)
    (e1 : kdT u sz (i + 5) ≠ (if co = true then 9 else 10) → E 1 (i + 5)) (e2 : kdT u sz (i + 5) = (if co = true then 9 else 10) → kdT u sz (i + 6) ≠ (if co = true then 31 else 30) → E 1 (i + 6)) (e3 : co = true → kdT u sz (i + 6) = 31 → w ≠ 0 → 999 < nbT u sz (i + 6) → E 5 (i + 6)) (e4 : co = false → kdT u sz (i + 6) = 30 → wkF w k kt u sz (i + 6) = none → E 3 (i + 6))
    (kk : ∀ h' mc' r' cap' f' b' told o, kdT u sz (i + 5) = (if co = true then 9 else 10) → kdT u sz (i + 6) = (if co = true then 31 else 30) → i + 7 ≤ nT u sz → (co = true → told = n3 (nbT u sz (i + 6)) ∧ (w = 0 ∨ nbT u sz (i + 6) ≤ 999)) → (co = false → ∃ e, wkF w k kt u sz (i + 6) = some e ∧ told = n3 e) → wfH G h' → RC G u sz n0 tl ta tx rd w so m k ky nd iv kt (i + 7) d h' → tlw n2 tl h' → mow n0 m k nd h' → lsO G h' (F 4) mc' r' (sz' + 1) cap' f' → (∀ j, j < sz' → f' j = f j) → f' sz' = some o → h'.2 o = some (.inr (11, [.int (bI co), .int told, .int z0])) → h.1 ≤ o → (r' = r ∨ h.1 ≤ r') → (r' = sd_ad G 0 ∨ n2 ≤ r') → fz n0 h h' → h'.2 cu = some (.inr (3, [.int z0, .int (n3 sz'), .int z2, .int z3])) → (∀ a e, h.2 a = some e → a ≠ cu → a ≠ rd → ¬ nmA u sz tx a → a ≠ F 4 → a ≠ r → h'.2 a = some e) → bud β b' (v - 45) → Q (.inl ()) h' b') :
    wp (sd_bnd (sd_getR G 6 4 rd) fun v5 => sd_bnd (sd_getR G 2 4 v5) fun v6 => sd_bnd (sd_isC G 41 v6) fun _ => sd_bnd (fJ2_size G v6) fun r7 => sd_bnd (sd_put 3 1 .int cu (.int r7)) fun _ => if bI co = 0 then (sd_bnd (sd_isC G 6 rd) fun _ => sd_bx (fX7_take_2 G rd (sd_ad G 114)) (fun e71 => sd_ret (.inr e71)) fun _ => sd_bnd (sd_getR G 6 5 rd) fun v8 => sd_bnd (sd_isC G 6 rd) fun _ => sd_bx (fX7_known G rd v8) (fun e79 => sd_ret (.inr e79)) fun r9 => fX7_find_b84 G rd (bI co) cu r9) else (sd_bnd (sd_isC G 6 rd) fun _ => sd_bx (fX7_numberOf G rd (sd_ad G 113) 0 999) (fun e60 => sd_ret (.inr e60)) fun r15 => fX7_find_b84 G rd (bI co) cu r15)) h b Q := by
  rw [wp_bnd, (rd_rd (RW_in R).2.1).2.2.2.2.1, wp_bnd, (aSo_rd hso).2.2.2.2.1, wp_bnd, wp_isC (sd_look_new L.1), wp_bnd, j_size (sd_look_new L.1), wp_bnd, wp_put hc (Nat.le_of_ble_eq_true rfl) rfl rfl]
  show wp _ (sd_up h cu (.inr (3, [.int z0, .int (n3 sz'), .int z2, .int z3]))) b Q
  have R1 : RW G u sz n0 tl ta tx rd w so m k ky nd iv kt n1 (i + 5) d (sd_up h cu (.inr (3, [.int z0, .int (n3 sz'), .int z2, .int z3]))) := RW_os R hc rfl (by decide)
  have c1 := up_at h cu (.inr (3, [.int z0, .int (n3 sz'), .int z2, .int z3]))
  have kp1 : ∀ a e, h.2 a = some e → a ≠ cu → (sd_up h cu (.inr (3, [.int z0, .int (n3 sz'), .int z2, .int z3]))).2 a = some e := fun a e q1 q2 => (up_ne q2).trans q1
  have kpS : ∀ a e, h.2 a = some e → (∀ fs, e ≠ .inr (3, fs)) → (sd_up h cu (.inr (3, [.int z0, .int (n3 sz'), .int z2, .int z3]))).2 a = some e := by
    intro a e q1 q2
    refine kp1 a e q1 ?_
    rintro rfl
    rw [hc] at q1
    cases q1
    exact q2 _ rfl
  have hel1 : ∀ j, j < sz' → sd_okQ G (sd_up h cu (.inr (3, [.int z0, .int (n3 sz'), .int z2, .int z3]))) 4 (f j) = true := fun j hj => okQ_up hc (fun o ho => ⟨_, rfl, by cases ho; rfl⟩) (hel j hj)
  have fz1 : fz n0 h (sd_up h cu (.inr (3, [.int z0, .int (n3 sz'), .int z2, .int z3]))) := fz_up hcn
  have n1' : (sd_up h cu (.inr (3, [.int z0, .int (n3 sz'), .int z2, .int z3]))).1 = h.1 := rfl
  generalize sd_up h cu (.inr (3, [.int z0, .int (n3 sz'), .int z2, .int z3])) = h1 at R1 c1 kp1 kpS hel1 fz1 n1' ⊢
  have so1 := kpS _ _ hso (fun _ q => by cases q)
  have L1 : lsO G h1 (F 4) mc r sz' cap f := by
    obtain ⟨l1, l2, l3⟩ := L
    refine ⟨kpS _ _ l1 (fun _ q => by cases q), ?_, l3⟩
    rcases l2 with q | ⟨q, q'⟩
    · exact Or.inl q
    · exact Or.inr ⟨kpS _ _ q (fun _ q => by cases q), q'⟩
  have T1 : tlw n2 tl h1 := tlw_kp T (RW_in R).1 (fun mc r n q => kpS _ _ q (fun _ q => by cases q))
  have m1 : h1.2 m = h.2 m := by
    obtain ⟨tb, mc', thr, fl, q1, -⟩ := (RW_in R).2.2.1
    rw [q1]
    exact kpS _ _ q1 (fun _ q => by cases q)
  -- to the end
  have fin : ∀ (h2 : sd_H) told, kdT u sz (i + 5) = (if co = true then 9 else 10) → kdT u sz (i + 6) = (if co = true then 31 else 30) → (co = true → told = n3 (nbT u sz (i + 6)) ∧ (w = 0 ∨ nbT u sz (i + 6) ≤ 999)) → (co = false → ∃ e, wkF w k kt u sz (i + 6) = some e ∧ told = n3 e) → RW G u sz n0 tl ta tx rd w so m k ky nd iv kt n1 (i + 7) d h2 → xf rd (nmA u sz tx) h1 h2 → h2.1 = h1.1 → i + 7 ≤ nT u sz → wp (fX7_find_b84 G rd (bI co) cu told) h2 b Q := by
    intro h2 told q1 q2 q3 q4 R2 X2 nh2 hi7
    have c2 := xf_o R1 X2 c1 (by decide) (by decide)
    have m2 : h2.2 m = h1.2 m := by
      obtain ⟨tb, mc', thr, fl, q1, -⟩ := (RW_in R1).2.2.1
      rw [q1]
      exact xf_o R1 X2 q1 (by decide) (by decide)
    have fz2 := fz_xf R1 hrd (by omega) X2
    have L2 := xf_ls R1 X2 L1
    refine w_fin84 (co := co) (told := told) R2 (by omega) h02 (tlw_kp T1 (RW_in R1).1 (fun mc r n q => xf_o R1 X2 q (by decide) (by decide))) (xf_o R1 X2 so1 (by decide) (by decide)) L2 ha hr hsz (fun j hj => xf_ok R1 X2 R2.1 (hel1 j hj)) c2 hb (by omega) (fun h3 mc' r' cap' f' b3 w3 R3 T3 L3 g1 g2 g3 g4 g5 g6 g7 B3 => ?_)
    have ncu : ∀ z d' fs, h2.2 z = some (.inr (d', fs)) → d' ≠ 41 → z ≠ F 4 ∧ z ≠ r := by
      intro z d' fs hz hd'
      constructor
      · rintro rfl
        rw [L2.1] at hz
        cases hz
        exact hd' rfl
      · rintro rfl
        rcases L2.2.1 with ⟨q, -⟩ | ⟨q, -⟩
        · rw [q, (wfH_z0 R2.1).1] at hz
          cases hz
        · rw [q] at hz
          cases hz
    obtain ⟨u1, u2⟩ := ncu _ _ _ c2 (by decide)
    have m3 : h3.2 m = h2.2 m := by
      obtain ⟨tb, mc', thr, fl, q1, -⟩ := (RW_in R2).2.2.1
      obtain ⟨u1, u2⟩ := ncu _ _ _ q1 (by decide)
      rw [q1]
      exact g7 _ _ q1 u1 u2
    refine kk h3 mc' r' cap' f' b3 told h2.1 q1 q2 hi7 q3 q4 w3 R3 T3 (mow_eq mo (m3.trans (m2.trans m1))) L3 g1 g2 g3 (by omega) ?_ g5 (fz1.trans (fz2.trans g6)) (g7 _ _ c2 u1 u2) (fun a e p1 p2 p3 p4 p5 p6 => g7 a e (X2.2.1 a e (kp1 a e p1 p2) p3 p4) p5 p6) B3
    rcases g4 with q | q
    · exact Or.inl q
    · exact Or.inr (by omega)
  cases co with
  | false =>
    rw [wp_ite, if_pos (show bI false = 0 from rfl)]
    refine w_tk C R1 hrd (by omega) hi (n := 114) (c := 10) (by decide) hb (by omega) (FL_fz kf fz1) e1 (fun h2 c5 R2 X2 nh2 => ?_)
    have hi6 : i + 6 ≤ nT u sz := tk_lt31 hi c5 (by decide) (by decide)
    rw [wp_bnd, (rd_rd (RW_in R2).2.1).2.2.2.2.2.1]
    refine w_kn C hiv R2 hrd (by omega) hi6 hb (by omega) (FL_fz kf (fz1.trans (fz_xf R1 hrd (by omega) X2))) (e2 c5) (e4 rfl) (fun e h3 c6 c7 R3 X3 nh3 => ?_)
    exact fin h3 (n3 e) c5 c6 (fun q => by cases q) (fun _ => ⟨e, c7, rfl⟩) R3 (X2.trans X3) (by omega) (tk_lt31 hi6 c6 (by decide) (by decide))
  | true =>
    rw [wp_ite, if_neg (by decide)]
    refine w_numOf C R1 hrd (by omega) hi (n := 113) (c := 9) (by decide) hb (by omega) (FL_fz kf fz1) e1 (fun p1 p2 => e2 p1 p2) (fun p1 p2 p3 p4 => ?_) (fun h2 c5 c6 p2 R2 X2 nh2 => ?_)
    · have l6 : i + 6 < nT u sz := tk_lt31 (tk_lt31 hi p1 (by decide) (by decide)) p2 (by decide) (by decide)
      have nb6 : nbT u sz (i + 6) < 1000000 := (kd_nw l6).1 p2
      rw [show (0 : Int32) = n3 0 from rfl, show (999 : Int32) = n3 999 from rfl, n3_rng nb6 (by decide) (by decide)] at p4
      have p4 : ¬ (0 ≤ nbT u sz (i + 6) ∧ nbT u sz (i + 6) ≤ 999) := p4
      exact e3 rfl p2 p3 (by omega)
    · have l6 : i + 6 < nT u sz := tk_lt31 (tk_lt31 hi c5 (by decide) (by decide)) c6 (by decide) (by decide)
      have nb6 : nbT u sz (i + 6) < 1000000 := (kd_nw l6).1 c6
      refine fin h2 _ c5 c6 (fun _ => ⟨rfl, ?_⟩) (fun q => by cases q) R2 X2 nh2 l6
      rcases p2 with q | q
      · exact Or.inl q
      · rw [show (0 : Int32) = n3 0 from rfl, show (999 : Int32) = n3 999 from rfl, n3_rng nb6 (by decide) (by decide)] at q
        exact Or.inr q.2
end LF2
