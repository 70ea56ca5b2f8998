/-! THE PLAIN LAW: a line of the first walk -/
section LI2
variable {G : sd_G} {u : Nat → Nat} {sz n0 n1 tl so m rd k : Nat} {ta tx : Nat → Nat} {w : Int32} {ky nd iv : Nat → Nat} {kt : Nat → List Nat} {β b : Nat × Nat} {h h' : sd_H} {i d v n2 E0 : Nat} {F : Nat → Nat}
/-- the world of the first walk, at token i -/
def W1 (G : sd_G) (u : Nat → Nat) (sz n0 tl : Nat) (ta tx : Nat → Nat) (rd : Nat) (w : Int32) (so m k : Nat) (ky nd iv : Nat → Nat) (kt : Nat → List Nat) (n2 E0 : Nat) (F : Nat → Nat) (i : Nat) (h : sd_H) : Prop := wfH G h ∧ RC G u sz n0 tl ta tx rd w so m k ky nd iv kt i 0 h ∧ tlw n2 tl h ∧ mow n0 m k nd h ∧ (∃ st ns, h.2 so = some (aSo st ns F E0)) ∧ ∃ rr sz', LL G n2 F rr sz' (EL1 h) h ∧ ∀ k, 3 ≤ k → k ≤ 5 → sz' k ≤ i
theorem lfr_xf (R : RW G u sz n0 tl ta tx rd w so m k ky nd iv kt n1 i d h) (hrd : n0 ≤ rd) (hn0 : n0 ≤ h.1) (X : xf rd (nmA u sz tx) h h') : lfr rd (nmA u sz tx) n0 (fun _ => False) h h' := ⟨fz_xf R hrd hn0 X, fun a e q1 q2 q3 _ _ => X.2.1 a e q1 q2 q3⟩
theorem so_kp {M : Nat → Prop} {st ns : Int32} (R : RC G u sz n0 tl ta tx rd w so m k ky nd iv kt i d h) (fr : lfr rd (nmA u sz tx) n0 M h h') (hM : ∀ z, M z → ∀ d fs, h.2 z = some (.inr (d, fs)) → d = 41 ∨ d = 3) (hs : h.2 so = some (aSo st ns F E0)) : h'.2 so = some (aSo st ns F E0) := by
  refine fr.2 _ _ hs ?_ ?_ rfl (fun q => ?_)
  · intro q
    rw [q, R.2.1] at hs
    cases hs
  · intro q
    obtain ⟨v, hs', hz', e'⟩ := nmA_s R.1 _ _ q hs
    cases e'
  · have := hM _ q _ _ hs
    omega
theorem W1_xf {j : Nat} (R : RW G u sz n0 tl ta tx rd w so m k ky nd iv kt n1 i 0 h) (hrd : n0 ≤ rd) (hn0 : n0 ≤ h.1) (W : W1 G u sz n0 tl ta tx rd w so m k ky nd iv kt n2 E0 F i h) (X : xf rd (nmA u sz tx) h h') (R' : RW G u sz n0 tl ta tx rd w so m k ky nd iv kt n1 j 0 h') (hj : i ≤ j) : W1 G u sz n0 tl ta tx rd w so m k ky nd iv kt n2 E0 F j h' := by
  obtain ⟨w1, w2, w3, w4, ⟨st, ns, w5⟩, rr, sz', w6, w7⟩ := W
  have fr := lfr_xf R hrd hn0 X
  have m' : h'.2 m = h.2 m := by
    obtain ⟨tb, mc', thr, fl, q1, -⟩ := w2.2.2.1
    rw [q1]
    exact xf_o R X q1 (by decide) (by decide)
  exact ⟨R'.1, RW_in R', tlw_kp w3 w2.1 (fun mc r n q => xf_o R X q (by decide) (by decide)), mow_eq w4 m', ⟨st, ns, xf_o R X w5 (by decide) (by decide)⟩, rr, sz', LL_same w1 w2 w6 fr (fun z hz => hz.elim) (fun k j o _ _ _ e => EL1_kp w2 fr (fun z hz => hz.elim) e), fun k k1 k2 => Nat.le_trans (w7 k k1 k2) hj⟩
/-- what a list's cell and its array are -/
theorem ls_d {a r s cap : Nat} {mc : Int32} {ff : Nat → Option Nat} (wf : wfH G h) (L : lsO G h a mc r s cap ff) : ∀ z, z = a ∨ z = r → ∀ d fs, h.2 z = some (.inr (d, fs)) → d = 41 ∨ d = 3 := by
  intro z hz d fs q
  rcases hz with rfl | rfl
  · rw [L.1] at q
    cases q
    exact Or.inl rfl
  · rcases L.2.1 with ⟨q3, -⟩ | ⟨q3, -⟩
    · rw [q3, (wfH_z0 wf).1] at q
      cases q
    · rw [q3] at q
      cases q
theorem w_line1 {Q : Unit ⊕ Nat → sd_H → Nat × Nat → Prop} (w0 : w = 0) (C : wlC G) (K : crC G) (I : icC G) (hiv : ∀ j, j < k → sd_c G (iv j) = some (.inr (47, [.int (n3 j)]))) (hrd : n0 ≤ rd) (h02 : n0 ≤ n2) (W : W1 G u sz n0 tl ta tx rd w so m k ky nd iv kt n2 E0 F i h) (hi : i ≤ nT u sz) (hb : bud β b v) (hv : 50 * (nT u sz + 1 - i) ≤ v)
    (kf : ∀ t h' q b', pLin (kdT u sz) (vlT u sz) i = .inr t → h'.2 q = some (aFt 1 (plT u sz t)) → wfH G h' → fz n0 h h' → bud β b' 0 → Q (.inr q) h' b')
    (kk : ∀ l h' b', pLin (kdT u sz) (vlT u sz) i = .inl l → i < l.2.1 → l.2.1 ≤ nT u sz → W1 G u sz n0 tl ta tx rd w so m k ky nd iv kt n2 E0 F l.2.1 h' → fz n0 h h' → bud β b' (50 * (nT u sz + 1 - l.2.1)) → Q (.inl ()) h' b') : wp (fX7_line G rd) h b Q := by
  have lN := nT_le (u := u) (sz := sz)
  have R : RW G u sz n0 tl ta tx rd w so m k ky nd iv kt h.1 i 0 h := RW_of W.1 W.2.1
  have hn0 : n0 ≤ h.1 := by
    have := RW_rdn R
    omega
  unfold fX7_line
  rw [wp_bnd, w_isC R, wp_bnd, c_now (RW_in R).1 (RW_in R).2.1 hi, wp_bnd, w_isC R, wp_bnd]
  refine w_tif C R hi (n := 106) (c := 2) (by decide) (fun h1 e R1 X1 nh1 => ?_) (fun e2 => ?_)
  · -- an empire
    have hi1 : i + 1 ≤ nT u sz := tk_lt31 hi e (by decide) (by decide)
    obtain ⟨w1, w2, w3, w4, ⟨st, ns, w5⟩, rr, sz', w6, w7⟩ := W1_xf R hrd hn0 W X1 R1 (Nat.le_succ i)
    obtain ⟨mc, cap, f, a1, a2, a3, a4⟩ := w6.1 3 (by omega) (by omega)
    have hsz := w7 3 (by omega) (by omega)
    have f1 := fz_xf R hrd hn0 X1
    have ep : pLin (kdT u sz) (vlT u sz) i = tmL (kdT u sz) i [30, 3, 31, 4, 31] := by
      unfold pLin
      rw [if_neg (by omega), if_pos e]
    rw [wp_ite, if_neg (by decide), wp_bnd, w_isC R1, wp_bx]
    refine w_empire (F := F) C I hiv R1 hrd (by omega) h02 w3 hi1 w5 a1 a2 a3 (by omega) (fun j hj => by obtain ⟨o, o1, o2⟩ := a4 j hj; rw [o1]; exact EL1_ok o2) w4 (fun q => absurd w0 q) hb (by omega) (fun er t h' q b' q1 q2 q3 q4 q5 => ?_) (fun h' mc' r' cap' f' o b' _ q1 q2 q3 q4 q5 q6 q7 q8 q9 q10 q11 q12 q13 q14 q15 => ?_) (fun h' mc' r' cap' f' o b' ky' nd' iv' q => absurd w0 q)
    · show wp (sd_ret (.inr q)) h' b' Q
      rw [wp_ret]
      rcases q1 with ⟨-, rfl, q1⟩ | ⟨q1, -⟩
      · exact kf t h' q b' (by rw [ep]; unfold tmL; rw [q1]) q2 q3 (f1.trans q4) q5
      · exact absurd w0 q1
    · show wp (sd_ret (.inl ())) h' b' Q
      rw [wp_ret]
      have hM := ls_d w1 a1
      refine kk (i, i + 6, [], [], []) h' b' (by rw [ep]; unfold tmL; rw [q1]) (by show i < i + 6; omega) q14 ⟨q2, q3, q4, q5, ⟨st, ns, so_kp w2 q13 hM w5⟩, updN rr 3 r', updN sz' 3 (sz' 3 + 1), LL_add w1 w2 w6 (by omega) (by omega) a1 a4 q13 (fun z hz => hz.elim Or.inl (fun q => Or.inr (Or.inl q))) q6 q7 q8 ?_ q12 (fun k j o k1 k2 hj E => EL1_kp w2 q13 (fun z hz d fs q => (hM z hz d fs q).imp_right Or.inl) E) ⟨10, _, q9, Or.inl rfl⟩, fun k k1 k2 => ?_⟩ (f1.trans q13.1) (bud_le q15 (by show 50 * (nT u sz + 1 - (i + 6)) ≤ _; omega))
      · rcases q11 with q | q
        · exact Or.inl q
        · exact Or.inr q
      · have := w7 k k1 k2
        by_cases c : k = 3
        · rw [c, updN_same]
          show sz' 3 + 1 ≤ i + 6
          omega
        · rw [updN_ne c]
          show sz' k ≤ i + 6
          omega
  · rw [wp_ite, if_pos rfl, wp_bnd, w_isC R, wp_bnd]
    -- finds
    have fnd : ∀ co (h1 : sd_H), kdT u sz i = (if co = true then 5 else 6) → RW G u sz n0 tl ta tx rd w so m k ky nd iv kt h.1 (i + 1) 0 h1 → xf rd (nmA u sz tx) h h1 → h1.1 = h.1 → wp (sd_bnd (sd_isC G 6 rd) fun _ => sd_bx (fX7_find G rd (ta i) (bI co)) (fun e33 => sd_ret (.inr e33)) fun _ => sd_ret (.inl ())) h1 b Q := by
      intro co h1 e R1 X1 nh1
      have hi1 : i + 1 ≤ nT u sz := by
        cases co with
        | true => exact tk_lt31 hi e (by decide) (by decide)
        | false => exact tk_lt31 hi e (by decide) (by decide)
      obtain ⟨w1, w2, w3, w4, ⟨st, ns, w5⟩, rr, sz', w6, w7⟩ := W1_xf R hrd hn0 W X1 R1 (Nat.le_succ i)
      obtain ⟨mc, cap, f, a1, a2, a3, a4⟩ := w6.1 4 (by omega) (by omega)
      have hsz := w7 4 (by omega) (by omega)
      have f1 := fz_xf R hrd hn0 X1
      have ep : pLin (kdT u sz) (vlT u sz) i = tmL (kdT u sz) i (cdF co) := by
        unfold pLin cdF
        cases co with
        | true =>
          have e : kdT u sz i = 5 := e
          rw [if_neg (by omega), if_neg (by omega), if_neg (by omega), if_pos e]
          rfl
        | false =>
          have e : kdT u sz i = 6 := e
          rw [if_neg (by omega), if_neg (by omega), if_neg (by omega), if_neg (by omega), if_pos e]
          rfl
      rw [wp_bnd, w_isC R1, wp_bx]
      refine w_find (F := F) (x := fun _ _ => 0) (ad := fun _ => 0) (mcs := fun _ => 0) (nsN := 0) (stN := 0) C hiv R1 hrd (by omega) h02 w3 hi1 w5 a1 a2 a3 (by omega) (fun j hj => by obtain ⟨o, o1, o2⟩ := a4 j hj; rw [o1]; exact EL1_ok o2) w4 (fun q => absurd w0 q) (fun q => absurd w0 q) (fun q => absurd w0 q) hb (by omega) (fun er t h' q b' q1 q2 q3 q4 q5 => ?_) (fun h' mc' r' cap' f' b' told o z0 _ q1 q2 q3 q4 q5 q6 q7 q8 q9 q10 q11 q12 q13 q14 q15 => ?_) (fun h' mc' r' cap' f' b' told o q => absurd w0 q)
      · show wp (sd_ret (.inr q)) h' b' Q
        rw [wp_ret]
        rcases q1 with ⟨-, rfl, q1⟩ | ⟨q1, -⟩
        · exact kf t h' q b' (by rw [ep]; unfold tmL; rw [q1]) q2 q3 (f1.trans q4) q5
        · exact absurd w0 q1
      · show wp (sd_ret (.inl ())) h' b' Q
        rw [wp_ret]
        have hM := ls_d w1 a1
        refine kk (i, i + 7, [], [], []) h' b' (by rw [ep]; unfold tmL; rw [q1]) (by show i < i + 7; omega) q14 ⟨q2, q3, q4, q5, ⟨st, ns, so_kp w2 q13 hM w5⟩, updN rr 4 r', updN sz' 4 (sz' 4 + 1), LL_add w1 w2 w6 (by omega) (by omega) a1 a4 q13 (fun z hz => hz.elim Or.inl (fun q => Or.inr (Or.inl q))) q6 q7 q8 q11 q12 (fun k j o k1 k2 hj E => EL1_kp w2 q13 (fun z hz d fs q => (hM z hz d fs q).imp_right Or.inl) E) ⟨11, _, q9, Or.inr (Or.inl rfl)⟩, fun k k1 k2 => ?_⟩ (f1.trans q13.1) (bud_le q15 (by show 50 * (nT u sz + 1 - (i + 7)) ≤ _; omega))
        have := w7 k k1 k2
        by_cases c : k = 4
        · rw [c, updN_same]
          show sz' 4 + 1 ≤ i + 7
          omega
        · rw [updN_ne c]
          show sz' k ≤ i + 7
          omega
    refine w_tif C R hi (n := 110) (c := 5) (by decide) (fun h1 e R1 X1 nh1 => ?_) (fun e5 => ?_)
    · rw [wp_ite, if_neg (by decide)]
      exact fnd true h1 e R1 X1 nh1
    · rw [wp_ite, if_pos rfl, wp_bnd, w_isC R, wp_bnd]
      refine w_tif C R hi (n := 115) (c := 6) (by decide) (fun h1 e R1 X1 nh1 => ?_) (fun e6 => ?_)
      · rw [wp_ite, if_neg (by decide)]
        exact fnd false h1 e R1 X1 nh1
      · rw [wp_ite, if_pos rfl, wp_bnd, w_isC R, wp_bnd]
        refine w_tif C R hi (n := 116) (c := 7) (by decide) (fun h1 e R1 X1 nh1 => ?_) (fun e7 => ?_)
        · -- a spring
          have hi1 : i + 1 ≤ nT u sz := tk_lt31 hi e (by decide) (by decide)
          obtain ⟨w1, w2, w3, w4, ⟨st, ns, w5⟩, rr, sz', w6, w7⟩ := W1_xf R hrd hn0 W X1 R1 (Nat.le_succ i)
          have f1 := fz_xf R hrd hn0 X1
          have ep : pLin (kdT u sz) (vlT u sz) i = tmL (kdT u sz) i [8, 31, 44, 31] := by
            unfold pLin
            rw [if_neg (by omega), if_neg (by omega), if_pos e]
          rw [wp_ite, if_neg (by decide)]
          refine w_spring (F := F) (x := fun _ _ => 0) (ad := fun _ => 0) (mcs := fun _ => 0) (nsN := 0) (stN := 0) C R1 hrd (by omega) w3 hi1 w5 w4 (fun q => absurd w0 q) (fun q => absurd w0 q) (fun q => absurd w0 q) hb (by omega) (fun er t h' q b' q1 q2 q3 q4 q5 => ?_) (fun h' b' _ q1 q2 q3 q4 q5 q6 q7 q8 => ?_) (fun h' b' q => absurd w0 q)
          · rcases q1 with ⟨-, rfl, q1⟩ | ⟨q1, -⟩
            · exact kf t h' q b' (by rw [ep]; unfold tmL; rw [q1]) q2 q3 (f1.trans q4) q5
            · exact absurd w0 q1
          · exact kk (i, i + 5, [], [], []) h' b' (by rw [ep]; unfold tmL; rw [q1]) (by show i < i + 5; omega) q7 ⟨q2, q3, q4, q5, ⟨st, ns, so_kp w2 q6 (fun z hz => hz.elim) w5⟩, rr, sz', LL_same w1 w2 w6 q6 (fun z hz => hz.elim) (fun k j o _ _ _ E => EL1_kp w2 q6 (fun z hz => hz.elim) E), fun k k1 k2 => by have := w7 k k1 k2; show sz' k ≤ i + 5; omega⟩ (f1.trans q6.1) (bud_le q8 (by show 50 * (nT u sz + 1 - (i + 5)) ≤ _; omega))
        · -- an order
          have W' := W
          obtain ⟨w1, w2, w3, w4, ⟨st, ns, w5⟩, rr, sz', w6, w7⟩ := W'
          obtain ⟨mc, cap, f, a1, a2, a3, a4⟩ := w6.1 5 (by omega) (by omega)
          have hsz := w7 5 (by omega) (by omega)
          have ep : pLin (kdT u sz) (vlT u sz) i = oFm u sz i := by
            unfold pLin oFm
            by_cases c : kdT u sz i = 11 ∨ kdT u sz i = 12 ∨ kdT u sz i = 13
            · rw [if_pos c, if_pos c]
            · rw [if_neg c, if_neg c, if_neg e2, if_neg e7, if_neg e5, if_neg e6]
          rw [wp_ite, if_pos rfl, wp_bnd, w_isC R, wp_bx]
          refine w_order (F := F) C K hiv R rfl hrd hn0 h02 w3 hi w5 a1 a2 a3 (by omega) (fun j hj => by obtain ⟨o, o1, o2⟩ := a4 j hj; rw [o1]; exact EL1_ok o2) w4 (fun q => absurd w0 q) hb hv (fun er t h' q b' q1 q2 q3 q4 q5 => ?_) (fun l h' mc' r' cap' f' b' o cr se te jj eA q1 q2 q3 q4 q5 q6 q7 q8 q9 q10 q11 q12 q13 q14 q15 q16 q17 q18 q19 q20 q21 q22 q23 q24 => ?_)
          · show wp (sd_ret (.inr q)) h' b' Q
            rw [wp_ret]
            rcases q1 with ⟨-, rfl, q1⟩ | ⟨q1, -⟩
            · exact kf t h' q b' (by rw [ep]; exact q1) q2 q3 q4 q5
            · exact absurd w0 q1
          · show wp (sd_ret (.inl ())) h' b' Q
            rw [wp_ret]
            have hM := ls_d w1 a1
            refine kk l h' b' (by rw [ep]; exact q1) q6 q7 ⟨q8, q9, q10, q11, ⟨st, ns, so_kp w2 q21 hM w5⟩, updN rr 5 r', updN sz' 5 (sz' 5 + 1), LL_add w1 w2 w6 (by omega) (by omega) a1 a4 q21 (fun z hz => hz.elim Or.inl (fun q => Or.inr (Or.inl q))) q12 q13 q14 ?_ q20 (fun k j o k1 k2 hj E => EL1_kp w2 q21 (fun z hz d fs q => (hM z hz d fs q).imp_right Or.inl) E) ⟨17, _, q15, Or.inr (Or.inr rfl)⟩, fun k k1 k2 => ?_⟩ q21.1 q24
            · rcases q19 with q | q
              · exact Or.inl q
              · exact Or.inr (by omega)
            · have := w7 k k1 k2
              by_cases c : k = 5
              · rw [c, updN_same]
                omega
              · rw [updN_ne c]
                omega
end LI2
