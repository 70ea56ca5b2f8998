/-! THE PLAIN LAW: the model's second look: what each token does -/
section MLF
variable {n : Nat} {ρ : Nat → Option Nat} {ad : Nat → Nat} {K : Nat → Option sd_E} {v : Nat → Int32} {x : Nat → Nat → Int32} {y : Nat → Nat → Int64} {G : sd_G} {b : Nat × Nat} {k s : Nat}
theorem f_seats {Q : Int32 → sd_H → Nat × Nat → Prop} (E : mOk n ρ ad) (hs : s < 1000000) : wp (fX5_itsSeats G (ad 0) (ad 20) (n6 s)) (hMo n ρ ad K v x y) b Q = if s < 2 ∨ 8 < s then Q (n3 5) (hMo n ρ ad K v x y) b else Q 0 (hMo n ρ ad K (upd v 20 (n3 s)) x y) b := by
  unfold fX5_itsSeats
  have e1 : (lg_cmp (n6 s) 2 < 0) = (s < 2) := lgn_lt hs (by decide)
  have e2 : (lg_cmp (n6 s) 8 ≤ 0) = (s ≤ 8) := lgn_le hs (by decide)
  rw [wp_ite]
  by_cases c1 : s < 2
  · rw [if_pos (e1.mpr c1), if_pos (Or.inl c1), wp_ret]
    rfl
  · rw [if_neg (fun h => c1 (e1.mp h)), wp_ite]
    by_cases c2 : s ≤ 8
    · rw [if_pos (e2.mpr c2), if_neg (by omega), n6_n3, wp_bnd]
      simp (disch := omega) only [↓mFl E, ↓mPu E, wp_ret]
    · rw [if_neg (fun h => c2 (e2.mp h)), if_pos (by omega), wp_ret]
      rfl
theorem f_layers {Q : Int32 → sd_H → Nat × Nat → Prop} (E : mOk n ρ ad) (hs : s < 1000000) : wp (fX5_itsLayers G (ad 0) (ad 20) (n6 s)) (hMo n ρ ad K v x y) b Q = if s < 2 ∨ 10 < s then Q (n3 5) (hMo n ρ ad K v x y) b else Q 0 (hMo n ρ ad K (upd v 21 (n3 s)) x y) b := by
  unfold fX5_itsLayers
  have e1 : (lg_cmp (n6 s) 2 < 0) = (s < 2) := lgn_lt hs (by decide)
  have e2 : (lg_cmp (n6 s) 10 ≤ 0) = (s ≤ 10) := lgn_le hs (by decide)
  rw [wp_ite]
  by_cases c1 : s < 2
  · rw [if_pos (e1.mpr c1), if_pos (Or.inl c1), wp_ret]
    rfl
  · rw [if_neg (fun h => c1 (e1.mp h)), wp_ite]
    by_cases c2 : s ≤ 10
    · rw [if_pos (e2.mpr c2), if_neg (by omega), n6_n3, wp_bnd]
      simp (disch := omega) only [↓mFl E, ↓mPu E, wp_ret]
    · rw [if_neg (fun h => c2 (e2.mp h)), if_pos (by omega), wp_ret]
      rfl
theorem oN_neg {a : Option Nat} (h : ∀ e, a = some e → e < 1000) : (oN a = -1) = (a = none) := by
  cases a with
  | none => simp [oN]
  | some e =>
    have := h e rfl
    simp only [oN, n3_neg1 (show e < 2147483648 by omega)]
    simp
theorem f_newEmp {nm : Nat → Nat} {z ne : Nat} {Q : Int32 → sd_H → Nat × Nat → Prop} (E : mOk n ρ ad) (hv : v 22 = n3 ne) (hn : ne ≤ 6) (hy : ∀ j, j < ne → y 23 j = n6 (nm j) ∧ nm j < 9223372036854775808) (hz : z < 9223372036854775808) : wp (fX5_newEmpire G (ad 0) (ad 20) (n6 z)) (hMo n ρ ad K v x y) b Q = if (fnN nm z ne 0).isSome = true then Q (n3 2) (hMo n ρ ad K v x y) b else if ne = 6 then Q (n3 4) (hMo n ρ ad K v x y) b else Q 0 (hMo n ρ ad K (upd v 22 (n3 (ne + 1))) x (up2L y 23 ne (n6 z))) b := by
  unfold fX5_newEmpire
  rw [wp_bnd, m_find E hv hn hy hz, wp_ite]
  have h1 := oN_neg (a := fnN nm z ne 0) (fun e h => by have := fnN_lt _ _ _ h; omega)
  cases hf : fnN nm z ne 0 with
  | some e =>
    rw [hf] at h1
    rw [if_neg (fun h => by have := h1.mp h; cases this), if_pos (show (some e).isSome = true from rfl), wp_ret]
    rfl
  | none =>
    rw [if_pos (show oN none = -1 from rfl), if_neg (show ¬ (none : Option Nat).isSome = true by decide), wp_bnd, hMo_getI5 E rfl, hv, wp_ite]
    by_cases c : ne = 6
    · rw [if_pos c, if_pos (show n3 ne = 6 from by rw [c]; rfl), wp_ret]
      rfl
    · rw [if_neg c, if_neg (show ¬ n3 ne = 6 from by rw [show (6 : Int32) = n3 6 from rfl, n3_eq (by omega) (by omega)]; exact c), wp_bnd, hMo_getR5 E rfl, wp_bnd, hMo_getI5 E rfl, hv, wp_bnd]
      simp (disch := omega) only [↓mAr E, mAr E, ↓mAs E, mAs E]
      rw [wp_bnd, hMo_getI5 E rfl, hv, n3_suc, wp_bnd]
      simp (disch := omega) only [↓mFl E, ↓mPu E, wp_ret]
theorem f_begin {ne : Nat} {Q : Int32 → sd_H → Nat × Nat → Prop} (E : mOk n ρ ad) (hs : s < 1000000) (hv : v 22 = n3 (ne + 1)) (hn : ne < 6) : wp (fX5_itsYears G (ad 0) (ad 20) (n6 s) 1) (hMo n ρ ad K v x y) b Q = if 999 < s then Q (n3 5) (hMo n ρ ad K v x y) b else Q 0 (hMo n ρ ad K v (up2 x 24 ne (n3 s)) y) b := by
  unfold fX5_itsYears fX5_itsYears_b36
  have e1 : (0 < lg_cmp (n6 s) 999) = (999 < s) := lgn_gt hs (by decide)
  rw [wp_bnd, hMo_getI5 E rfl, hv, wp_bnd, wp_ret, show n3 (ne + 1) - 1 = n3 ne from n3_sub (a := ne + 1) (b := 1) (by omega), wp_ite]
  by_cases c1 : 999 < s
  · rw [if_pos (e1.mpr c1), if_pos c1, wp_ret]
    rfl
  · rw [if_neg (fun h => c1 (e1.mp h)), if_neg c1, wp_ite, if_neg (by decide), wp_ite, if_neg (by decide), wp_bnd, hMo_getR5 E rfl, n6_n3, wp_bnd]
    simp (disch := omega) only [↓mAr E, mAr E, ↓mAs E, mAs E, wp_ret]
theorem f_end {ne bg : Nat} {Q : Int32 → sd_H → Nat × Nat → Prop} (E : mOk n ρ ad) (hs : s < 1000000) (hv : v 22 = n3 (ne + 1)) (hn : ne < 6) (hb : x 24 ne = n3 bg) (hb2 : bg < 1000000) : wp (fX5_itsYears G (ad 0) (ad 20) (n6 s) 0) (hMo n ρ ad K v x y) b Q = if 999 < s ∨ s < bg then Q (n3 5) (hMo n ρ ad K v x y) b else Q 0 (hMo n ρ ad K v (up2 x 25 ne (n3 s)) y) b := by
  unfold fX5_itsYears fX5_itsYears_b36
  have e1 : (0 < lg_cmp (n6 s) 999) = (999 < s) := lgn_gt hs (by decide)
  have e2 : (0 ≤ lg_cmp (n6 s) (n6 bg)) = (bg ≤ s) := lgn_ge hs hb2
  rw [wp_bnd, hMo_getI5 E rfl, hv, wp_bnd, wp_ret, show n3 (ne + 1) - 1 = n3 ne from n3_sub (a := ne + 1) (b := 1) (by omega), wp_ite]
  by_cases c1 : 999 < s
  · rw [if_pos (e1.mpr c1), if_pos (Or.inl c1), wp_ret]
    rfl
  · rw [if_neg (fun h => c1 (e1.mp h)), wp_ite, if_pos rfl, wp_bnd, hMo_getR5 E rfl, wp_bnd]
    have r24 : ∀ (b : Nat × Nat) (Q : Int32 → sd_H → Nat × Nat → Prop), wp (sd_aldI G 0 (ad 24) (n3 ne)) (hMo n ρ ad K v x y) b Q = Q (n3 bg) (hMo n ρ ad K v x y) b := by
      intro b Q
      simp (disch := omega) only [↓mAr E, mAr E, ↓mAs E, mAs E, hb]
    rw [r24, n3_n6 (by omega), wp_ite]
    by_cases c2 : bg ≤ s
    · rw [if_pos (e2.mpr c2), if_neg (show ¬ (999 < s ∨ s < bg) by omega), wp_ite, if_pos rfl, wp_bnd, hMo_getR5 E rfl, n6_n3, wp_bnd]
      simp (disch := omega) only [↓mAr E, mAr E, ↓mAs E, mAs E, wp_ret]
    · rw [if_neg (fun h => c2 (e2.mp h)), if_pos (by omega), wp_ret]
      rfl
theorem f_newFind {nf : Nat} {co : Bool} {Q : Int32 → sd_H → Nat × Nat → Prop} (E : mOk n ρ ad) (hv : v 26 = n3 nf) (hn : nf ≤ 24) : wp (fX5_newFind G (ad 0) (ad 20) (bI co)) (hMo n ρ ad K v x y) b Q = if nf = 24 then Q (n3 4) (hMo n ρ ad K (upd v 13 0) x y) b else Q 0 (hMo n ρ ad K (upd (upd v 13 0) 26 (n3 (nf + 1))) (up2 x 27 nf (bI co)) y) b := by
  unfold fX5_newFind
  have hv' : upd v 13 0 26 = n3 nf := hv
  have nb : sd_nar 3 (bI co) = bI co := by cases co <;> rfl
  have p13 : ∀ (b : Nat × Nat) (Q : Unit → sd_H → Nat × Nat → Prop), wp (sd_put 4 13 .boolean (ad 0) (.int 0)) (hMo n ρ ad K v x y) b Q = Q () (hMo n ρ ad K (upd v 13 0) x y) b := by
    intro b Q
    simp (disch := omega) only [↓mFl E, ↓mPu E]
  rw [wp_bnd, p13, wp_bnd, hMo_getI5 E rfl, hv', wp_ite]
  by_cases c : nf = 24
  · rw [if_pos c, if_pos (show n3 nf = 24 from by rw [c]; rfl), wp_ret]
    rfl
  · rw [if_neg c, if_neg (show ¬ n3 nf = 24 from by rw [show (24 : Int32) = n3 24 from rfl, n3_eq (by omega) (by omega)]; exact c), wp_bnd, hMo_getR5 E rfl, wp_bnd, hMo_getI5 E rfl, hv', wp_bnd]
    have a27 : ∀ (b : Nat × Nat) (Q : Unit → sd_H → Nat × Nat → Prop), wp (sd_astI 3 (ad 27) (n3 nf) (bI co)) (hMo n ρ ad K (upd v 13 0) x y) b Q = Q () (hMo n ρ ad K (upd v 13 0) (up2 x 27 nf (bI co)) y) b := fun b Q => hMo_ast (i := 27) E (by decide) (by decide) (by decide) (by decide) (by decide) nb (show nf < 24 by omega)
    rw [a27, wp_bnd, hMo_getI5 E rfl, hv', n3_suc, wp_bnd]
    simp (disch := omega) only [↓mFl E, ↓mPu E, wp_ret]
theorem f_seat {se c : Nat} {Q : Int32 → sd_H → Nat × Nat → Prop} (E : mOk n ρ ad) (hk2 : 2 ≤ k) (hk : k ≤ 400) (hc : x 5 (k - 2) = n3 c) (hc2 : c < 1000) (hy : y 8 k = n6 s) (hs : s < 1000000) (hv : v 20 = n3 se) (hse : se ≤ 8) : wp (fX5_itsSeat G (ad 0) (ad 20) (n3 k)) (hMo n ρ ad K v x y) b Q = if s < se then Q 0 (hMo n ρ ad K (upd (if c = 7 then upd v 13 1 else v) 14 (n3 s)) x y) b else Q (n3 5) (hMo n ρ ad K (if c = 7 then upd v 13 1 else v) x y) b := by
  have b18 : ∀ v' : Nat → Int32, v' 20 = n3 se → wp (fX5_itsSeat_b18 G (ad 0) (ad 20) (n3 k)) (hMo n ρ ad K v' x y) b Q = if s < se then Q 0 (hMo n ρ ad K (upd v' 14 (n3 s)) x y) b else Q (n3 5) (hMo n ρ ad K v' x y) b := by
    intro v' hv'
    unfold fX5_itsSeat_b18
    have e1 : (lg_cmp (n6 s) (n6 se) < 0) = (s < se) := lgn_lt hs (by omega)
    rw [wp_bnd, hMo_getR4 E rfl, wp_bnd, ra_8 E (by omega), hy, wp_bnd, hMo_getI5 E rfl, hv', n3_n6 (by omega), wp_ite]
    by_cases c1 : s < se
    · rw [if_pos (e1.mpr c1), if_pos c1, wp_bnd, hMo_getR4 E rfl, wp_bnd, ra_8 E (by omega), hy, n6_n3, wp_bnd]
      simp (disch := omega) only [↓mFl E, ↓mPu E, wp_ret]
    · rw [if_neg (fun h => c1 (e1.mp h)), if_neg c1, wp_ret]
      rfl
  unfold fX5_itsSeat
  rw [show n3 k - 2 = n3 (k - 2) from n3_sub (a := k) (b := 2) (by omega), wp_bnd, hMo_getR4 E rfl, wp_bnd, ra_5 E (by omega), hc, wp_ite]
  by_cases c7 : c = 7
  · have p13 : ∀ (b : Nat × Nat) (Q : Unit → sd_H → Nat × Nat → Prop), wp (sd_put 4 13 .boolean (ad 0) (.int 1)) (hMo n ρ ad K v x y) b Q = Q () (hMo n ρ ad K (upd v 13 1) x y) b := by
      intro b Q
      simp (disch := omega) only [↓mFl E, ↓mPu E]
    rw [if_pos (show n3 c = 7 from by rw [c7]; rfl), if_pos c7, wp_bnd, p13, b18 (upd v 13 1) hv]
  · rw [if_neg (show ¬ n3 c = 7 from by rw [show (7 : Int32) = n3 7 from rfl, n3_eq (by omega) (by omega)]; exact c7), if_neg c7, b18 v hv]
theorem f_strat {st se nf : Nat} {isp : Bool} {Q : Int32 → sd_H → Nat × Nat → Prop} (E : mOk n ρ ad) (hs : s < 1000000) (h21 : v 21 = n3 st) (hst : st ≤ 10) (h14 : v 14 = n3 se) (hse : se < 8) (h13 : v 13 = bI isp) (h26 : v 26 = n3 nf) (hnf : nf ≤ 24) (hf1 : isp = false → 1 ≤ nf) : wp (fX5_itsStratum G (ad 0) (ad 20) (n6 s)) (hMo n ρ ad K v x y) b Q = if st ≤ s then Q (n3 5) (hMo n ρ ad K v x y) b else if isp = true then (if x 31 (10 * se + s) ≠ 0 then Q (n3 2) (hMo n ρ ad K v x y) b else Q 0 (hMo n ρ ad K v (up2 x 31 (10 * se + s) 1) y) b) else (if x 30 (10 * se + s) ≠ -1 then Q (n3 2) (hMo n ρ ad K v x y) b else Q 0 (hMo n ρ ad K v (up2 (up2 x 30 (10 * se + s) (n3 (nf - 1))) 28 (nf - 1) (n3 (10 * se + s))) y) b) := by
  unfold fX5_itsStratum fX5_itsStratum_b57
  have e1 : (lg_cmp (n6 s) (n6 st) < 0) = (s < st) := lgn_lt hs (by omega)
  rw [wp_bnd, hMo_getI5 E rfl, h21, n3_n6 (by omega), wp_ite]
  by_cases c1 : s < st
  · rw [if_pos (e1.mpr c1), if_neg (by omega), wp_bnd, hMo_getI4 E rfl, h14, wp_bnd, wp_ret, n6_n3, show (10 : Int32) * n3 se = n3 (10 * se) from n3_mul 10 se, n3_add, wp_bnd, hMo_getI4 E rfl, h13, wp_ite]
    cases isp with
    | true =>
      have r31 : ∀ (b : Nat × Nat) (Q : Int32 → sd_H → Nat × Nat → Prop), wp (sd_aldI G 3 (ad 31) (n3 (10 * se + s))) (hMo n ρ ad K v x y) b Q = Q (x 31 (10 * se + s)) (hMo n ρ ad K v x y) b := fun b Q => hMo_ald (i := 31) E (by decide) (by decide) (by decide) (by decide) (by decide) (show 10 * se + s < 80 by omega)
      have a31 : ∀ (b : Nat × Nat) (Q : Unit → sd_H → Nat × Nat → Prop), wp (sd_astI 3 (ad 31) (n3 (10 * se + s)) 1) (hMo n ρ ad K v x y) b Q = Q () (hMo n ρ ad K v (up2 x 31 (10 * se + s) 1) y) b := fun b Q => hMo_ast (i := 31) E (by decide) (by decide) (by decide) (by decide) (by decide) rfl (show 10 * se + s < 80 by omega)
      rw [if_neg (show ¬ bI true = 0 by decide), if_pos rfl, wp_bnd, hMo_getR5 E rfl, wp_bnd, r31, wp_ite]
      by_cases c2 : x 31 (10 * se + s) = 0
      · rw [if_pos c2, if_neg (fun h => h c2), wp_bnd, hMo_getI4 E rfl, h13, wp_ite, if_neg (show ¬ bI true = 0 by decide), wp_bnd, hMo_getR5 E rfl, wp_bnd, a31, wp_ret]
      · rw [if_neg c2, if_pos c2, wp_ret]
        rfl
    | false =>
      have f1 := hf1 rfl
      have r30 : ∀ (b : Nat × Nat) (Q : Int32 → sd_H → Nat × Nat → Prop), wp (sd_aldI G 0 (ad 30) (n3 (10 * se + s))) (hMo n ρ ad K v x y) b Q = Q (x 30 (10 * se + s)) (hMo n ρ ad K v x y) b := fun b Q => hMo_ald (i := 30) E (by decide) (by decide) (by decide) (by decide) (by decide) (show 10 * se + s < 80 by omega)
      have a30 : ∀ (b : Nat × Nat) (Q : Unit → sd_H → Nat × Nat → Prop), wp (sd_astI 0 (ad 30) (n3 (10 * se + s)) (n3 (nf - 1))) (hMo n ρ ad K v x y) b Q = Q () (hMo n ρ ad K v (up2 x 30 (10 * se + s) (n3 (nf - 1))) y) b := fun b Q => hMo_ast (i := 30) E (by decide) (by decide) (by decide) (by decide) (by decide) rfl (show 10 * se + s < 80 by omega)
      have a28 : ∀ (x : Nat → Nat → Int32) (b : Nat × Nat) (Q : Unit → sd_H → Nat × Nat → Prop), wp (sd_astI 0 (ad 28) (n3 (nf - 1)) (n3 (10 * se + s))) (hMo n ρ ad K v x y) b Q = Q () (hMo n ρ ad K v (up2 x 28 (nf - 1) (n3 (10 * se + s))) y) b := fun x b Q => hMo_ast (i := 28) E (by decide) (by decide) (by decide) (by decide) (by decide) rfl (show nf - 1 < 24 by omega)
      rw [if_pos (show bI false = 0 from rfl), if_neg (show ¬ false = true by decide), wp_bnd, hMo_getR5 E rfl, wp_bnd, r30, wp_ite]
      by_cases c2 : x 30 (10 * se + s) = -1
      · rw [if_pos c2, if_neg (fun h => h c2), wp_bnd, hMo_getI4 E rfl, h13, wp_ite, if_pos (show bI false = 0 from rfl), wp_bnd, hMo_getR5 E rfl, wp_bnd, hMo_getI5 E rfl, h26, show n3 nf - 1 = n3 (nf - 1) from n3_sub (a := nf) (b := 1) f1, wp_bnd, a30, wp_bnd, hMo_getR5 E rfl, wp_bnd, hMo_getI5 E rfl, h26, show n3 nf - 1 = n3 (nf - 1) from n3_sub (a := nf) (b := 1) f1, wp_bnd, a28, wp_ret]
      · rw [if_neg c2, if_pos c2, wp_ret]
        rfl
  · rw [if_neg (fun h => c1 (e1.mp h)), if_pos (by omega), wp_ret]
    rfl
theorem f_year {nf : Nat} {Q : Int32 → sd_H → Nat × Nat → Prop} (E : mOk n ρ ad) (hs : s < 1000000) (h26 : v 26 = n3 (nf + 1)) (hnf : nf < 24) : wp (fX5_itsYear G (ad 0) (ad 20) (n6 s)) (hMo n ρ ad K v x y) b Q = if 999 < s then Q (n3 5) (hMo n ρ ad K v x y) b else Q 0 (hMo n ρ ad K v (up2 x 29 nf (n3 s)) y) b := by
  unfold fX5_itsYear
  have e1 : (lg_cmp (n6 s) 999 ≤ 0) = (s ≤ 999) := lgn_le hs (by decide)
  have a29 : ∀ (b : Nat × Nat) (Q : Unit → sd_H → Nat × Nat → Prop), wp (sd_astI 0 (ad 29) (n3 nf) (n3 s)) (hMo n ρ ad K v x y) b Q = Q () (hMo n ρ ad K v (up2 x 29 nf (n3 s)) y) b := fun b Q => hMo_ast (i := 29) E (by decide) (by decide) (by decide) (by decide) (by decide) rfl (show nf < 24 by omega)
  rw [wp_ite]
  by_cases c1 : s ≤ 999
  · rw [if_pos (e1.mpr c1), if_neg (by omega), wp_bnd, hMo_getR5 E rfl, wp_bnd, hMo_getI5 E rfl, h26, show n3 (nf + 1) - 1 = n3 nf from n3_sub (a := nf + 1) (b := 1) (by omega), n6_n3, wp_bnd, a29, wp_ret]
  · rw [if_neg (fun h => c1 (e1.mp h)), if_pos (by omega), wp_ret]
    rfl
theorem f_order {no : Nat} {Q : Int32 → sd_H → Nat × Nat → Prop} (E : mOk n ρ ad) (hv : v 32 = n3 no) (hn : no ≤ 16) : wp (fX5_newOrder G (ad 0) (ad 20)) (hMo n ρ ad K v x y) b Q = if no = 16 then Q (n3 4) (hMo n ρ ad K v x y) b else Q 0 (hMo n ρ ad K (upd v 32 (n3 (no + 1))) x y) b := by
  unfold fX5_newOrder
  rw [wp_bnd, hMo_getI5 E rfl, hv, wp_ite]
  by_cases c : no = 16
  · rw [if_pos c, if_pos (show n3 no = 16 from by rw [c]; rfl), wp_ret]
    rfl
  · rw [if_neg c, if_neg (show ¬ n3 no = 16 from by rw [show (16 : Int32) = n3 16 from rfl, n3_eq (by omega) (by omega)]; exact c), wp_bnd, hMo_getI5 E rfl, hv, n3_suc, wp_bnd]
    simp (disch := omega) only [↓mFl E, ↓mPu E, wp_ret]
theorem f_anEmp {nm : Nat → Nat} {z ne nf : Nat} {mz : Int32} {Q : Int32 → sd_H → Nat × Nat → Prop} (E : mOk n ρ ad) (hk : k ≤ 400) (hy8 : y 8 k = n6 z) (hv : v 22 = n3 ne) (hn : ne ≤ 6) (hy : ∀ j, j < ne → y 23 j = n6 (nm j) ∧ nm j < 9223372036854775808) (hz : z < 9223372036854775808) (hm : x 7 k = mz) (h26 : mz = 10 → v 26 = n3 (nf + 1)) (hnf : nf < 24) : wp (fX5_anEmpire G (ad 0) (ad 20) (n3 k)) (hMo n ρ ad K v x y) b Q = match fnN nm z ne 0 with
    | none => Q (n3 3) (hMo n ρ ad K v (up2 x 9 k (-1)) y) b
    | some e => if mz = 10 then Q 0 (hMo n ρ ad K v (up2 (up2 x 9 k (n3 e)) 29 nf (n3 e)) y) b else Q 0 (hMo n ρ ad K v (up2 x 9 k (n3 e)) y) b := by
  unfold fX5_anEmpire
  have a9 : ∀ (z : Int32) (b : Nat × Nat) (Q : Unit → sd_H → Nat × Nat → Prop), wp (sd_astI 0 (ad 9) (n3 k) z) (hMo n ρ ad K v x y) b Q = Q () (hMo n ρ ad K v (up2 x 9 k z) y) b := fun z b Q => hMo_ast (i := 9) E (by decide) (by decide) (by decide) (by decide) (by decide) rfl (show k < 401 by omega)
  have r9 : ∀ (z : Int32) (b : Nat × Nat) (Q : Int32 → sd_H → Nat × Nat → Prop), wp (sd_aldI G 0 (ad 9) (n3 k)) (hMo n ρ ad K v (up2 x 9 k z) y) b Q = Q z (hMo n ρ ad K v (up2 x 9 k z) y) b := by
    intro z b Q
    have := hMo_ald (G := G) (K := K) (v := v) (x := up2 x 9 k z) (y := y) (b := b) (Q := Q) (i := 9) E (by decide) (by decide) (by decide) (by decide) (by decide) (show k < 401 by omega)
    rw [up2_at, upd_same] at this
    exact this
  rw [wp_bnd, hMo_getR4 E rfl, wp_bnd, hMo_getR4 E rfl, wp_bnd, ra_8 E (by omega), hy8, wp_bnd, m_find E hv hn hy hz, wp_bnd, a9, wp_bnd, hMo_getR4 E rfl, wp_bnd, r9, wp_ite]
  have h1 := oN_neg (a := fnN nm z ne 0) (fun e h => by have := fnN_lt _ _ _ h; omega)
  cases hf : fnN nm z ne 0 with
  | none =>
    rw [if_pos (show oN none = -1 from rfl), wp_ret]
    rfl
  | some e =>
    rw [hf] at h1
    have hm' : up2 x 9 k (oN (some e)) 7 k = mz := hm
    rw [if_neg (fun h => by have := h1.mp h; cases this), wp_bnd, hMo_getR4 E rfl, wp_bnd, ra_7 E (by omega), hm', wp_ite]
    by_cases c : mz = 10
    · have a29 : ∀ (b : Nat × Nat) (Q : Unit → sd_H → Nat × Nat → Prop), wp (sd_astI 0 (ad 29) (n3 nf) (n3 e)) (hMo n ρ ad K v (up2 x 9 k (n3 e)) y) b Q = Q () (hMo n ρ ad K v (up2 (up2 x 9 k (n3 e)) 29 nf (n3 e)) y) b := fun b Q => hMo_ast (i := 29) E (by decide) (by decide) (by decide) (by decide) (by decide) rfl (show nf < 24 by omega)
      rw [if_pos c, wp_bnd, hMo_getR5 E rfl, wp_bnd, hMo_getI5 E rfl, h26 c, show n3 (nf + 1) - 1 = n3 nf from n3_sub (a := nf + 1) (b := 1) (by omega), wp_bnd, hMo_getR4 E rfl, wp_bnd, r9, wp_bnd]
      show wp (sd_astI 0 (ad 29) (n3 nf) (n3 e)) (hMo n ρ ad K v (up2 x 9 k (n3 e)) y) b _ = _
      rw [a29, wp_ret]
      show _ = if mz = 10 then _ else _
      rw [if_pos c]
    · rw [if_neg c, wp_ret]
      show _ = if mz = 10 then _ else _
      rw [if_neg c]
      rfl
end MLF
