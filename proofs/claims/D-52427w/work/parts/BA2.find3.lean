/-! THE PLAIN LAW: lines of finds and springs, raw: from the first word on -/
section LF3
variable {G : sd_G} {u : Nat → Nat} {sz n0 n1 tl so m rd k : Nat} {ta tx : Nat → Nat} {w : Int32} {ky nd iv : Nat → Nat} {kt : Nat → List Nat} {β b : Nat × Nat} {h h' : sd_H} {i d v n2 : Nat} {x : Nat → Nat → Int32} {ad : Nat → Nat} {mcs : Nat → Int32}
theorem cdF_in {u : Nat → Nat} {sz i : Nat} {co : Bool} (q : tmp (kdT u sz) (i + 1) (cdF co) = .inl (i + 7)) : kdT u sz (i + 1) = 8 ∧ kdT u sz (i + 2) = 31 ∧ kdT u sz (i + 3) = 44 ∧ kdT u sz (i + 4) = 31 ∧ kdT u sz (i + 5) = (if co = true then 9 else 10) ∧ kdT u sz (i + 6) = (if co = true then 31 else 30) := by
  have e : tmp (kdT u sz) (i + 1) [8, 31, 44, 31, (if co = true then 9 else 10), (if co = true then 31 else 30)] = .inl (i + 7) := by
    cases co <;> exact q
  rw [tmp_6] at e
  by_cases c1 : kdT u sz (i + 1) = 8
  · rw [if_pos c1] at e
    by_cases c2 : kdT u sz (i + 2) = 31
    · rw [if_pos c2] at e
      by_cases c3 : kdT u sz (i + 3) = 44
      · rw [if_pos c3] at e
        by_cases c4 : kdT u sz (i + 4) = 31
        · rw [if_pos c4] at e
          by_cases c5 : kdT u sz (i + 5) = (if co = true then 9 else 10)
          · rw [if_pos c5] at e
            by_cases c6 : kdT u sz (i + 6) = (if co = true then 31 else 30)
            · exact ⟨c1, c2, c3, c4, c5, c6⟩
            · rw [if_neg c6] at e
              cases e
          · rw [if_neg c5] at e
            cases e
        · rw [if_neg c4] at e
          cases e
      · rw [if_neg c3] at e
        cases e
    · rw [if_neg c2] at e
      cases e
  · rw [if_neg c1] at e
    cases e
theorem cdF_6 {u : Nat → Nat} {sz i : Nat} {co : Bool} : tmp (kdT u sz) (i + 1) (cdF co) = tmp (kdT u sz) (i + 1) [8, 31, 44, 31, (if co = true then 9 else 10), (if co = true then 31 else 30)] := by
  cases co <;> rfl
theorem w_find {E0 r sz' cap nsN stN : Nat} {st ns mc : Int32} {F : Nat → Nat} {f : Nat → Option Nat} {co : Bool} {Q : Unit ⊕ Nat → sd_H → Nat × Nat → Prop} (C : wlC G) (hiv : ∀ j, j < k → sd_c G (iv j) = some (.inr (47, [.int (n3 j)]))) (R : RW G u sz n0 tl ta tx rd w so m k ky nd iv kt n1 (i + 1) d h) (hrd : n0 ≤ rd) (hn0 : n0 ≤ h.1) (h02 : n0 ≤ n2) (T : tlw n2 tl h) (hi : i + 1 ≤ nT u sz) (hso : h.2 so = some (aSo st ns F E0)) (L : lsO G h (F 4) mc r sz' cap f) (ha : n2 ≤ F 4) (hr : r = sd_ad G 0 ∨ n2 ≤ r) (hsz : sz' ≤ 400) (hel : ∀ j, j < sz' → sd_okQ G h 4 (f j) = true) (mo : mow n0 m k nd h) (HS : w ≠ 0 → ns = n3 nsN ∧ st = n3 stN ∧ nsN ≤ 8 ∧ stN ≤ 10 ∧ STK x ad mcs nsN stN (F 2) h) (hcn : w ≠ 0 → ∀ s k, s < nsN → k < stN → n0 ≤ ad (100 + (10 * s + k))) (hf : w ≠ 0 → tmp (kdT u sz) (i + 1) (cdF co) = .inl (i + 7)) (hb : bud β b v) (hv : 100 ≤ v) (kf : FL G u sz n0 (EF w sz' nsN stN x k kt u sz i co) h β Q)
    (k0 : ∀ h' mc' r' cap' f' b' told o z0, w = 0 → tmp (kdT u sz) (i + 1) (cdF co) = .inl (i + 7) → wfH G h' → RC G u sz n0 tl ta tx rd w so m k ky nd iv kt (i + 7) d h' → tlw n2 tl h' → mow n0 m k nd h' → lsO G h' (F 4) mc' r' (sz' + 1) cap' f' → (∀ j, j < sz' → f' j = f j) → f' sz' = some o → h'.2 o = some (.inr (11, [.int (bI co), .int told, .int z0])) → h.1 ≤ o → (r' = r ∨ h.1 ≤ r') → (r' = sd_ad G 0 ∨ n2 ≤ r') → lfr rd (nmA u sz tx) n0 (fun a => a = F 4 ∨ a = r) h h' → i + 7 ≤ nT u sz → bud β b' (v - 60) → Q (.inl ()) h' b')
    (k1 : ∀ h' mc' r' cap' f' b' told o, w ≠ 0 → eFin sz' nsN stN x k kt u sz i co = none → nbT u sz (i + 2) < nsN → nbT u sz (i + 4) < stN → sz' < 24 → gdP 1 x (10 * nbT u sz (i + 2) + nbT u sz (i + 4)) → (co = true → told = n3 (nbT u sz (i + 6)) ∧ nbT u sz (i + 6) ≤ 999) → (co = false → ∃ e, fdK kt (txT u sz (i + 6)) (List.range k) = some e ∧ told = n3 e) → wfH G h' → RC G u sz n0 tl ta tx rd w so m k ky nd iv kt (i + 7) d h' → tlw n2 tl h' → mow n0 m k nd h' → lsO G h' (F 4) mc' r' (sz' + 1) cap' f' → (∀ j, j < sz' → f' j = f j) → f' sz' = some o → h'.2 o = some (.inr (11, [.int (bI co), .int told, .int (n3 (nbT u sz (i + 4)))])) → h.1 ≤ o → (r' = r ∨ h.1 ≤ r') → (r' = sd_ad G 0 ∨ n2 ≤ r') → h'.2 (ad (100 + (10 * nbT u sz (i + 2) + nbT u sz (i + 4)))) = some (.inr (3, [.int (n3 (nbT u sz (i + 4))), .int (n3 sz'), .int (x 31 (10 * nbT u sz (i + 2) + nbT u sz (i + 4))), .int 0])) → lfr rd (nmA u sz tx) n0 (fun a => a = F 4 ∨ a = r ∨ a = ad (100 + (10 * nbT u sz (i + 2) + nbT u sz (i + 4)))) h h' → i + 7 ≤ nT u sz → bud β b' (v - 60) → Q (.inl ()) h' b') : wp (fX7_find G rd (ta i) (bI co)) h b Q := by
  have hb1 := hb.1
  have hb2 := hb.2
  have lN := nT_le (u := u) (sz := sz)
  have eN : ∀ t, (w = 0 → tmp (kdT u sz) (i + 1) (cdF co) = .inr t) → (w ≠ 0 → False) → EF w sz' nsN stN x k kt u sz i co 1 t := by
    intro t q1 q2
    by_cases w0 : w = 0
    · exact Or.inl ⟨w0, rfl, q1 w0⟩
    · exact (q2 w0).elim
  -- behind the check of how many
  have b22 : ∀ y : Int32, (y ≠ 0 ↔ sz' < 24) → wp (fX7_find_b22 G rd (ta i) (bI co) y 4 rd) h b Q := by
    intro y hy
    unfold fX7_find_b22
    refine w_chk R hn0 (show i ≤ nT u sz by omega) hb (by omega) kf (fun q1 q2 => ?_) (fun q => ?_)
    · refine Or.inr ⟨q1, ?_⟩
      unfold eFin
      rw [if_pos]
      rcases Nat.lt_or_ge sz' 24 with z | z
      · exact absurd q2 (hy.mpr z)
      · exact z
    · have h24 : w ≠ 0 → sz' < 24 := fun q1 => hy.mp (q.resolve_left q1)
      rw [wp_bnd, w_isC R, wp_bx]
      refine w_place (E := EF w sz' nsN stN x k kt u sz i co) (p := i + 1) (a1 := 1) (x := x) (ad := ad) (mcs := mcs) (nsN := nsN) (stN := stN) C R hrd hn0 hi hso hb (by omega) HS (fun er t h' q b' q1 q2 q3 q4 q5 => ?_) (fun e => ?_) (fun e e' => ?_) (fun _ _ e e' => ?_) (fun e e' e2 => ?_) (fun e e' e2 e3 => ?_) (fun e e' e2 => ?_) (fun e e' e2 e3 => ?_) (fun h2 b2 w0 c1 c2 c3 c4 hi5 R2 X2 o2 B2 => ?_) (fun h2 w0 c1 c2 c3 c4 hi5 m1 m2 m3 R2 X2 nh2 => ?_)
      · show wp (sd_ret (.inr q)) h' b' Q
        rw [wp_ret]
        exact kf er t h' q b' q1 q2 q3 q4 q5
      · exact eN _ (fun _ => by rw [cdF_6, tmp_6, if_neg e]) (fun q => e (cdF_in (hf q)).1)
      · exact eN _ (fun _ => by rw [cdF_6, tmp_6, if_pos e, if_neg e']) (fun q => e' (cdF_in (hf q)).2.1)
      · refine Or.inr ⟨e, ?_⟩
        unfold eFin
        rw [if_neg (by have := h24 e; omega), if_pos e']
      · exact eN _ (fun _ => by rw [cdF_6, tmp_6, if_pos e, if_pos e', if_neg e2]) (fun q => e2 (cdF_in (hf q)).2.2.1)
      · exact eN _ (fun _ => by rw [cdF_6, tmp_6, if_pos e, if_pos e', if_pos e2, if_neg e3]) (fun q => e3 (cdF_in (hf q)).2.2.2.1)
      · refine Or.inr ⟨e, ?_⟩
        unfold eFin
        rw [if_neg (by have := h24 e; omega), if_neg (Nat.not_le_of_lt e'), if_pos e2]
      · refine Or.inr ⟨e, ?_⟩
        unfold eFin
        rw [if_neg (by have := h24 e; omega), if_neg (Nat.not_le_of_lt e'), if_neg (Nat.not_le_of_lt e2), if_pos (fun q => e3 (gd1.mpr q))]
      · -- first walk
        have tl2 := tlw_kp T (RW_in R).1 (fun mc r n q => xf_o R X2 q (by decide) (by decide))
        have m2 : h2.2 m = h.2 m := by
          obtain ⟨tb, mc', thr, fl, q1, -⟩ := (RW_in R).2.2.1
          rw [q1]
          exact xf_o R X2 q1 (by decide) (by decide)
        refine w_finT (co := co) (E := EF w sz' nsN stN x k kt u sz i co) C hiv R2 hrd (by have := X2.1; omega) h02 tl2 hi5 (xf_o R X2 hso (by decide) (by decide)) (xf_ls R X2 L) ha hr hsz (fun j hj => xf_ok R X2 R2.1 (hel j hj)) (mow_eq mo m2) o2 hn0 B2 (by omega) (FL_fz kf (fz_xf R hrd hn0 X2)) (fun e => ?_) (fun e e2 => ?_) (fun _ _ e => absurd w0 e) (fun _ _ e => absurd e (wk_tot w0 _)) (fun h3 mc' r' cap' f' b3 told o q1 q2 q3 q4 q5 q6 q7 q8 q9 q10 q11 q12 q13 q14 q15 q16 q17 q18 q19 q20 => ?_)
        · exact eN _ (fun _ => by rw [cdF_6, tmp_6, if_pos c1, if_pos c2, if_pos c3, if_pos c4, if_neg e]) (fun q => absurd w0 q)
        · exact eN _ (fun _ => by rw [cdF_6, tmp_6, if_pos c1, if_pos c2, if_pos c3, if_pos c4, if_pos e, if_neg e2]) (fun q => absurd w0 q)
        · refine k0 h3 mc' r' cap' f' b3 told o _ w0 (by rw [cdF_6, tmp_6, if_pos c1, if_pos c2, if_pos c3, if_pos c4, if_pos q1, if_pos q2]) q6 q7 q8 q9 q10 q11 q12 q13 (by have := X2.1; omega) ?_ q16 ⟨(fz_xf R hrd hn0 X2).trans q17, fun a e z1 z2 z3 _ z4 => q19 a e (X2.2.1 a e z1 z2 z3) (by have := (R.1.1 _ _ z1).2; omega) z2 z3 (fun q => z4 (Or.inl q)) (fun q => z4 (Or.inr q))⟩ q3 (bud_le q20 (by omega))
          rcases q15 with q | q
          · exact Or.inl q
          · exact Or.inr (by have := X2.1; omega)
      · -- second walk
        have h24 := h24 w0
        have u2 := (xf_STK R X2 (HS w0).2.2.2.2).2.2 _ _ m1 m2
        have tl2 := tlw_kp T (RW_in R).1 (fun mc r n q => xf_o R X2 q (by decide) (by decide))
        have mm2 : h2.2 m = h.2 m := by
          obtain ⟨tb, mc', thr, fl, q1, -⟩ := (RW_in R).2.2.1
          rw [q1]
          exact xf_o R X2 q1 (by decide) (by decide)
        have ee : ∀ y, (if co = true then (if 999 < nbT u sz (i + 6) then some ((5 : Int32), i + 6) else none) else if fdK kt (txT u sz (i + 6)) (List.range k) = none then some (3, i + 6) else none) = y → eFin sz' nsN stN x k kt u sz i co = y := by
          intro y hy
          unfold eFin
          rw [if_neg (by omega), if_neg (Nat.not_le_of_lt m1), if_neg (Nat.not_le_of_lt m2), if_neg (fun q => q (gd1.mp m3))]
          exact hy
        have wkn : ∀ j, wkF w k kt u sz j = fdK kt (txT u sz j) (List.range k) := fun j => if_neg w0
        refine w_finT (co := co) (E := EF w sz' nsN stN x k kt u sz i co) C hiv R2 hrd (by omega) h02 tl2 hi5 (xf_o R X2 hso (by decide) (by decide)) (xf_ls R X2 L) ha hr hsz (fun j hj => xf_ok R X2 R2.1 (hel j hj)) (mow_eq mo mm2) u2 (hcn w0 _ _ m1 m2) hb (by omega) (FL_fz kf (fz_xf R hrd hn0 X2)) (fun e => absurd (cdF_in (hf w0)).2.2.2.2.1 e) (fun _ e => absurd (cdF_in (hf w0)).2.2.2.2.2 e) (fun e e1 e2 e3 => ?_) (fun e e1 e2 => ?_) (fun h3 mc' r' cap' f' b3 told o q1 q2 q3 q4 q5 q6 q7 q8 q9 q10 q11 q12 q13 q14 q15 q16 q17 q18 q19 q20 => ?_)
        · exact Or.inr ⟨w0, ee _ (by rw [if_pos e, if_pos e3])⟩
        · rw [wkn] at e2
          exact Or.inr ⟨w0, ee _ (by rw [e, if_neg (by decide), if_pos e2])⟩
        · refine k1 h3 mc' r' cap' f' b3 told o w0 (ee _ ?_) m1 m2 h24 m3 (fun q => ⟨(q4 q).1, (q4 q).2.resolve_left w0⟩) (fun q => ?_) q6 q7 q8 q9 q10 q11 q12 q13 (by omega) ?_ q16 q18 ⟨(fz_xf R hrd hn0 X2).trans q17, fun a e z1 z2 z3 _ z4 => q19 a e (X2.2.1 a e z1 z2 z3) (fun q => z4 (Or.inr (Or.inr q))) z2 z3 (fun q => z4 (Or.inl q)) (fun q => z4 (Or.inr (Or.inl q)))⟩ q3 (bud_le q20 (by omega))
          · cases hco : co with
            | true =>
              rw [if_pos rfl, if_neg]
              have := (q4 hco).2.resolve_left w0
              omega
            | false =>
              obtain ⟨e, e1, -⟩ := q5 hco
              rw [wkn] at e1
              rw [if_neg (by decide), if_neg (by rw [e1]; intro q; cases q)]
          · obtain ⟨e, e1, e2⟩ := q5 q
            rw [wkn] at e1
            exact ⟨e, e1, e2⟩
          · rcases q15 with q | q
            · exact Or.inl q
            · exact Or.inr (by omega)
  unfold fX7_find
  rw [wp_bnd, (rd_rd (RW_in R).2.1).2.2.2.2.1, wp_bnd, (aSo_rd hso).2.2.2.2.1, wp_bnd, wp_isC (sd_look_new L.1), wp_bnd, j_size (sd_look_new L.1), wp_ite]
  by_cases c : (24 : Int32) ≤ n3 sz'
  · rw [if_pos c]
    rw [show (24 : Int32) = n3 24 from rfl, n3_le (by omega) (by omega)] at c
    exact b22 0 ⟨fun q => absurd rfl q, fun q => by omega⟩
  · rw [if_neg c]
    rw [show (24 : Int32) = n3 24 from rfl, n3_le (by omega) (by omega)] at c
    exact b22 1 ⟨fun _ => by omega, fun _ => by decide⟩
theorem tm4_in {u : Nat → Nat} {sz i : Nat} (e : tmp (kdT u sz) (i + 1) [8, 31, 44, 31] = .inl (i + 5)) : kdT u sz (i + 1) = 8 ∧ kdT u sz (i + 2) = 31 ∧ kdT u sz (i + 3) = 44 ∧ kdT u sz (i + 4) = 31 := by
  rw [tmp_4] at e
  by_cases c1 : kdT u sz (i + 1) = 8
  · rw [if_pos c1] at e
    by_cases c2 : kdT u sz (i + 2) = 31
    · rw [if_pos c2] at e
      by_cases c3 : kdT u sz (i + 3) = 44
      · rw [if_pos c3] at e
        by_cases c4 : kdT u sz (i + 4) = 31
        · exact ⟨c1, c2, c3, c4⟩
        · rw [if_neg c4] at e
          cases e
      · rw [if_neg c3] at e
        cases e
    · rw [if_neg c2] at e
      cases e
  · rw [if_neg c1] at e
    cases e
/-- a spring; the place and the field -/
theorem w_spring {E0 nsN stN : Nat} {st ns : Int32} {F : Nat → Nat} {Q : Unit ⊕ Nat → sd_H → Nat × Nat → Prop} (C : wlC G) (R : RW G u sz n0 tl ta tx rd w so m k ky nd iv kt n1 (i + 1) d h) (hrd : n0 ≤ rd) (hn0 : n0 ≤ h.1) (T : tlw n2 tl h) (hi : i + 1 ≤ nT u sz) (hso : h.2 so = some (aSo st ns F E0)) (mo : mow n0 m k nd h) (HS : w ≠ 0 → ns = n3 nsN ∧ st = n3 stN ∧ nsN ≤ 8 ∧ stN ≤ 10 ∧ STK x ad mcs nsN stN (F 2) h) (hcn : w ≠ 0 → ∀ s k, s < nsN → k < stN → n0 ≤ ad (100 + (10 * s + k))) (hf : w ≠ 0 → tmp (kdT u sz) (i + 1) [8, 31, 44, 31] = .inl (i + 5)) (hb : bud β b v) (hv : 100 ≤ v) (kf : FL G u sz n0 (ES w nsN stN x u sz i) h β Q)
    (k0 : ∀ h' b', w = 0 → tmp (kdT u sz) (i + 1) [8, 31, 44, 31] = .inl (i + 5) → wfH G h' → RC G u sz n0 tl ta tx rd w so m k ky nd iv kt (i + 5) d h' → tlw n2 tl h' → mow n0 m k nd h' → lfr rd (nmA u sz tx) n0 (fun _ => False) h h' → i + 5 ≤ nT u sz → bud β b' (v - 60) → Q (.inl ()) h' b')
    (k1 : ∀ h' b', w ≠ 0 → eSpr nsN stN x u sz i = none → nbT u sz (i + 2) < nsN → nbT u sz (i + 4) < stN → gdP 0 x (10 * nbT u sz (i + 2) + nbT u sz (i + 4)) → wfH G h' → RC G u sz n0 tl ta tx rd w so m k ky nd iv kt (i + 5) d h' → tlw n2 tl h' → mow n0 m k nd h' → h'.2 (ad (100 + (10 * nbT u sz (i + 2) + nbT u sz (i + 4)))) = some (.inr (3, [.int (n3 (nbT u sz (i + 4))), .int (x 30 (10 * nbT u sz (i + 2) + nbT u sz (i + 4))), .int 1, .int 0])) → lfr rd (nmA u sz tx) n0 (fun a => a = ad (100 + (10 * nbT u sz (i + 2) + nbT u sz (i + 4)))) h h' → i + 5 ≤ nT u sz → bud β b' (v - 60) → Q (.inl ()) h' b') : wp (sd_bnd (sd_isC G 6 rd) fun _ => sd_bx (fX7_place G rd 0) (fun e68 => sd_ret (.inr e68)) fun r6 => sd_bnd (sd_put 3 2 .boolean r6 (.int 1)) fun _ => sd_ret (.inl ())) h b Q := by
  have eN : ∀ t, (w = 0 → tmp (kdT u sz) (i + 1) [8, 31, 44, 31] = .inr t) → (w ≠ 0 → False) → ES w nsN stN x u sz i 1 t := by
    intro t q1 q2
    by_cases w0 : w = 0
    · exact Or.inl ⟨w0, rfl, q1 w0⟩
    · exact (q2 w0).elim
  rw [wp_bnd, w_isC R, wp_bx]
  refine w_place (E := ES w nsN stN x u sz i) (p := i + 1) (a1 := 0) (x := x) (ad := ad) (mcs := mcs) (nsN := nsN) (stN := stN) C R hrd hn0 hi hso hb (by omega) HS (fun er t h' q b' q1 q2 q3 q4 q5 => ?_) (fun e => ?_) (fun e e' => ?_) (fun _ _ e e' => ?_) (fun e e' e2 => ?_) (fun e e' e2 e3 => ?_) (fun e e' e2 => ?_) (fun e e' e2 e3 => ?_) (fun h2 b2 w0 c1 c2 c3 c4 hi5 R2 X2 o2 B2 => ?_) (fun h2 w0 c1 c2 c3 c4 hi5 m1 m2 m3 R2 X2 nh2 => ?_)
  · show wp (sd_ret (.inr q)) h' b' Q
    rw [wp_ret]
    exact kf er t h' q b' q1 q2 q3 q4 q5
  · exact eN _ (fun _ => by rw [tmp_4, if_neg e]) (fun q => e (tm4_in (hf q)).1)
  · exact eN _ (fun _ => by rw [tmp_4, if_pos e, if_neg e']) (fun q => e' (tm4_in (hf q)).2.1)
  · refine Or.inr ⟨e, ?_⟩
    unfold eSpr
    rw [if_pos e']
  · exact eN _ (fun _ => by rw [tmp_4, if_pos e, if_pos e', if_neg e2]) (fun q => e2 (tm4_in (hf q)).2.2.1)
  · exact eN _ (fun _ => by rw [tmp_4, if_pos e, if_pos e', if_pos e2, if_neg e3]) (fun q => e3 (tm4_in (hf q)).2.2.2)
  · refine Or.inr ⟨e, ?_⟩
    unfold eSpr
    rw [if_neg (Nat.not_le_of_lt e'), if_pos e2]
  · refine Or.inr ⟨e, ?_⟩
    unfold eSpr
    rw [if_neg (Nat.not_le_of_lt e'), if_neg (Nat.not_le_of_lt e2), if_pos (fun q => e3 (gd0.mpr q))]
  · show wp (sd_bnd (sd_put 3 2 .boolean h.1 (.int 1)) _) h2 b2 Q
    rw [wp_bnd, wp_put o2 (Nat.le_of_ble_eq_true rfl) rfl rfl, wp_ret]
    have R3 := RW_os (e := .inr (3, [.int 0, .int (-1), .int 1, .int 0])) R2 o2 rfl (by decide)
    have kp : ∀ a e, h.2 a = some e → a ≠ rd → ¬ nmA u sz tx a → (sd_up h2 h.1 (.inr (3, [.int 0, .int (-1), .int 1, .int 0]))).2 a = some e := fun a e z1 z2 z3 => (up_ne (by have := (R.1.1 _ _ z1).2; omega)).trans (X2.2.1 a e z1 z2 z3)
    have mm : (sd_up h2 h.1 (.inr (3, [.int 0, .int (-1), .int 1, .int 0]))).2 m = h.2 m := by
      obtain ⟨tb, mc', thr, fl, q1, -⟩ := (RW_in R).2.2.1
      have := (R.1.1 _ _ q1).2
      rw [q1, up_ne (by omega)]
      exact xf_o R X2 q1 (by decide) (by decide)
    refine k0 _ b2 w0 (by rw [tmp_4, if_pos c1, if_pos c2, if_pos c3, if_pos c4]) R3.1 (RW_in R3) (tlw_kp T (RW_in R).1 (fun mc r n q => ?_)) (mow_eq mo mm) ⟨(fz_xf R hrd hn0 X2).trans (fz_up hn0), fun a e z1 z2 z3 _ _ => kp a e z1 z2 z3⟩ hi5 (bud_le B2 (by omega))
    have := (R.1.1 _ _ q).2
    rw [up_ne (by omega)]
    exact xf_o R X2 q (by decide) (by decide)
  · have u2 := (xf_STK R X2 (HS w0).2.2.2.2).2.2 _ _ m1 m2
    have hcn := hcn w0 _ _ m1 m2
    show wp (sd_bnd (sd_put 3 2 .boolean (ad (100 + (10 * nbT u sz (i + 2) + nbT u sz (i + 4)))) (.int 1)) _) h2 b Q
    rw [wp_bnd, wp_put u2 (Nat.le_of_ble_eq_true rfl) rfl rfl, wp_ret]
    have R3 := RW_os (e := .inr (3, [.int (n3 (nbT u sz (i + 4))), .int (x 30 (10 * nbT u sz (i + 2) + nbT u sz (i + 4))), .int 1, .int 0])) R2 u2 rfl (by decide)
    have kpS : ∀ a d' fs, h.2 a = some (.inr (d', fs)) → d' ≠ 6 → d' ≠ 45 → d' ≠ 3 → (sd_up h2 (ad (100 + (10 * nbT u sz (i + 2) + nbT u sz (i + 4)))) (.inr (3, [.int (n3 (nbT u sz (i + 4))), .int (x 30 (10 * nbT u sz (i + 2) + nbT u sz (i + 4))), .int 1, .int 0]))).2 a = some (.inr (d', fs)) := by
      intro a d' fs q1 q2 q3 q4
      have q5 := xf_o R X2 q1 q2 q3
      rw [up_ne]
      · exact q5
      · rintro rfl
        rw [q5] at u2
        cases u2
        exact q4 rfl
    have mm : (sd_up h2 (ad (100 + (10 * nbT u sz (i + 2) + nbT u sz (i + 4)))) (.inr (3, [.int (n3 (nbT u sz (i + 4))), .int (x 30 (10 * nbT u sz (i + 2) + nbT u sz (i + 4))), .int 1, .int 0]))).2 m = h.2 m := by
      obtain ⟨tb, mc', thr, fl, q1, -⟩ := (RW_in R).2.2.1
      rw [q1]
      exact kpS _ _ _ q1 (by decide) (by decide) (by decide)
    refine k1 _ b w0 ?_ m1 m2 m3 R3.1 (RW_in R3) (tlw_kp T (RW_in R).1 (fun mc r n q => kpS _ _ _ q (by decide) (by decide) (by decide))) (mow_eq mo mm) (up_at _ _ _) ⟨(fz_xf R hrd hn0 X2).trans (fz_up hcn), fun a e z1 z2 z3 _ z4 => (up_ne z4).trans (X2.2.1 a e z1 z2 z3)⟩ hi5 (bud_le hb (by omega))
    unfold eSpr
    rw [if_neg (Nat.not_le_of_lt m1), if_neg (Nat.not_le_of_lt m2), if_neg (fun q => q (gd0.mp m3))]
end LF3
