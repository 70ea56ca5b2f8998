/-! THE PLAIN LAW: the component's next token, all of it -/
def syms : List Nat := [40, 41, 91, 93, 59, 44, 43, 45, 42, 47, 60, 62, 61]
theorem sym_ix : ∀ c, c < 256 → (if n3 c ≤ 0 then False else if ixL c syms 0 < 0 then False else True) = (sym c = true) := by
  have key : ∀ c : Fin 256, ((if n3 c.val ≤ 0 then False else if ixL c.val syms 0 < 0 then False else True) ↔ (sym c.val = true)) := by decide +kernel
  exact fun c hc => propext (key ⟨c, hc⟩)
theorem srt_sym {G : sd_G} : ∀ c, sym c = true → srtA G c = sd_ad G 6 ∧ srtA G (256 + c) = sd_ad G 6 := by
  intro c hc
  unfold sym at hc
  simp only [Bool.or_eq_true, decide_eq_true_eq] at hc
  unfold srtA
  constructor
  · rw [if_neg (by omega), if_neg (by omega), if_neg (by omega), if_neg (by omega), if_neg (by omega)]
  · rw [if_neg (by omega), if_neg (by omega), if_neg (by omega), if_neg (by omega), if_neg (by omega)]
section NX
variable {G : sd_G} {h : sd_H} {b : Nat × Nat} {tp bt sz sc tl : Nat} {u : Nat → Nat}
/-- what a new token is -/
def nxQ (G : sd_G) (u : Nat → Nat) (sz i p : Nat) (h : sd_H) (b : Nat × Nat) (Q : Nat → sd_H → Nat × Nat → Prop) : Prop := ∀ h' tk x b', wfH G h' → h'.2 tk = some (aTk (srtA G (if i = 400 then 32 else knP u sz p)) x p) → h.1 ≤ tk → (i ≠ 400 → nwS h h' u x p (enP u sz p)) → h.1 ≤ h'.1 → (∀ a, a < h.1 → h'.2 a = h.2 a) → b.1 ≤ b'.1 + (enP u sz p - p + 5) → b.2 ≤ b'.2 + (5 * (enP u sz p - p) + 79) → Q tk h' b'
/-- a token made first, then its text -/
theorem c_mk {i p s : Nat} {Q : Nat → sd_H → Nat × Nat → Prop} (w : wfH G h) (T : tapH h tp bt sz u) (hsc : h.2 sc = some (.inr (7, [.ref tp, .ref tl]))) (hp : p < sz) (hi : i ≠ 400) (hs : s = srtA G (knP u sz p)) (b1 : enP u sz p - p + 6 ≤ b.1) (b2 : 9 * (enP u sz p - p) + 210 ≤ b.2) (kk : nxQ G u sz i p h b Q) : wp (fX8_next_b252 G sc (n3 p) (n3 (enP u sz p)) s h.1 h.1) (sd_pu h (.inr (8, [.null, .null, .int 0]))) (b.1 - 1, b.2 - 3) Q := by
  have g1 : p < enP u sz p := enP_gt
  have g2 : enP u sz p ≤ sz := enP_le hp
  have hl := (w.1 _ _ hsc).2
  refine c_b252 (h := sd_pu h (.inr (8, [.null, .null, .int 0]))) (tl := tl) (wfH_pu w) (tapH_fr w T (fun a ha => pu_ne (by omega))) ((pu_ne (by omega)).trans hsc) (pu_at h _) (by omega) g2 (by simp only; omega) (by simp only; omega) (fun h' x b' w' q1 q2 q3 q4 q5 q6 => ?_)
  have q3 : h.1 + 1 ≤ h'.1 := q3
  refine kk h' h.1 x b' w' ?_ (Nat.le_refl _) (fun _ => ?_) (by omega) (fun a ha => ?_) (by simp only at q5; omega) (by simp only at q6; omega)
  · rw [if_neg hi, ← hs]
    exact q1
  · obtain ⟨v, g, r1, r2, r3, r4, r5⟩ := q2
    have r3 : h.1 + 1 ≤ x := r3
    have r4 : h.1 + 1 ≤ v := r4
    exact ⟨v, g, r1, r2, by omega, by omega, r5⟩
  · rw [q4 a (show a < h.1 + 1 by omega) (by omega)]
    exact pu_ne (by omega)
theorem c_b226 {i p : Nat} {Q : Nat → sd_H → Nat × Nat → Prop} (w : wfH G h) (hSy : strC G (sd_ad G 102) syms) (T : tapH h tp bt sz u) (hsc : h.2 sc = some (.inr (7, [.ref tp, .ref tl]))) (hp : p < sz) (hi : i ≠ 400) (hL : isL (u p) = false) (hD : isD (u p) = false) (b1 : enP u sz p - p + 6 ≤ b.1) (b2 : 9 * (enP u sz p - p) + 210 ≤ b.2) (kk : nxQ G u sz i p h b Q) : wp (fX8_next_b226 G sc (n3 p) (n3 (u p)) (n3 (enP u sz p))) h b Q := by
  have hu : u p < 256 := by
    obtain ⟨bs, t1, t2, t3, t4⟩ := T
    exact (t3 p hp).2
  unfold fX8_next_b226 fX8_next_b249
  rw [wp_bnd]
  refine wp_new (by omega) (by omega) ?_
  have kn : knP u sz p = if enP u sz p - p = 2 then 256 + u p else if sym (u p) = true then u p else 32 := by
    unfold knP
    rw [if_neg (by rw [hD]; decide), if_neg (by rw [hL]; decide)]
  have e2 : enP u sz p - p = 2 → sym (u p) = true := by
    intro h2
    unfold enP at h2
    rw [if_neg (by rw [hL]; decide), if_neg (by rw [hD]; decide)] at h2
    by_cases c : (u p = 60 ∨ u p = 62) ∧ p + 1 < sz ∧ u (p + 1) = 61
    · rcases c.1 with c | c <;> rw [c] <;> decide
    · rw [if_neg c] at h2
      omega
  have sy := sym_ix (u p) hu
  have w1 : wfH G (sd_pu h (.inr (8, [.null, .null, .int 0]))) := wfH_pu w
  have H := strC_H (h := sd_pu h (.inr (8, [.null, .null, .int 0]))) w1 hSy (by decide) (by decide)
  have bad : sym (u p) = false → wp (fX8_next_b252 G sc (n3 p) (n3 (enP u sz p)) (sd_ad G 1) h.1 h.1) (sd_pu h (.inr (8, [.null, .null, .int 0]))) (b.1 - 1, b.2 - 3) Q := by
    intro hs
    refine c_mk w T hsc hp hi ?_ b1 b2 kk
    rw [kn, if_neg (fun h2 => by rw [e2 h2] at hs; cases hs), if_neg (by rw [hs]; decide)]
    rfl
  rw [wp_ite]
  by_cases c1 : n3 (u p) ≤ 0
  · rw [if_pos c1]
    rw [if_pos c1] at sy
    exact bad (Bool.eq_false_iff.mpr (fun q => sy.mpr q))
  · rw [if_neg c1, wp_bnd, strH_isC H, wp_bnd, j_ixL H hu, wp_ite]
    rw [if_neg c1] at sy
    by_cases c2 : ixL (u p) syms 0 < 0
    · rw [if_pos c2]
      rw [if_pos c2] at sy
      exact bad (Bool.eq_false_iff.mpr (fun q => sy.mpr q))
    · rw [if_neg c2]
      rw [if_neg c2] at sy
      have hs : sym (u p) = true := sy.mp trivial
      refine c_mk w T hsc hp hi ?_ b1 b2 kk
      rw [kn]
      by_cases c3 : enP u sz p - p = 2
      · rw [if_pos c3, (srt_sym _ hs).2]
      · rw [if_neg c3, if_pos hs, (srt_sym _ hs).1]
theorem c_next {i p r : Nat} {mc : Int32} {Q : Nat → sd_H → Nat × Nat → Prop} (w : wfH G h) (hW : strsC G (sd_ad G 2) kws) (hSy : strC G (sd_ad G 102) syms) (T : tapH h tp bt sz u) (hsc : h.2 sc = some (.inr (7, [.ref tp, .ref tl]))) (htl : sd_look G h tl = some (aL mc r i)) (hp : p < sz) (hi : i ≤ 400) (b1 : enP u sz p - p + 6 ≤ b.1) (b2 : 9 * (enP u sz p - p) + 210 ≤ b.2) (kk : nxQ G u sz i p h b Q) : wp (fX8_next G sc (n3 p)) h b Q := by
  have g1 : p < enP u sz p := enP_gt
  have g2 : enP u sz p ≤ sz := enP_le hp
  have hsz : sz ≤ 2000 ∧ ∀ k, k < sz → u k < 256 := by
    obtain ⟨bs, t1, t2, t3, t4⟩ := T
    exact ⟨t4, fun k hk => (t3 k hk).2⟩
  have hup := hsz.2 p hp
  have hsz := hsz.1
  have chp : chA u sz p = u p := if_pos hp
  have chl : ∀ k, chA u sz k < 2147483648 := by
    intro k
    unfold chA
    by_cases c : k < sz
    · rw [if_pos c]
      obtain ⟨bs, t1, t2, t3, t4⟩ := T
      have := (t3 k c).2
      omega
    · rw [if_neg c]
      omega
  unfold fX8_next
  rw [wp_bnd, wp_getR (sd_look_new hsc) rfl, wp_bnd, wp_isC htl, wp_bnd, j_size htl, wp_ite]
  by_cases c400 : i = 400
  · rw [if_pos (by rw [c400]; rfl), wp_bnd]
    refine wp_new (by omega) (by omega) ?_
    rw [wp_bnd, c_tok (pu_at h _), pu_up, wp_ret]
    refine kk _ h.1 (sd_ad G 100) _ (wfH_pu w) ?_ (Nat.le_refl _) (fun q => absurd c400 q) (show h.1 ≤ h.1 + 1 by omega) (fun a ha => pu_ne (by omega)) (by simp only; omega) (by simp only; omega)
    rw [if_pos c400]
    exact pu_at h _
  · rw [if_neg (by rw [show (400 : Int32) = n3 400 from rfl, n3_eq (by omega) (by omega)]; exact c400), wp_bnd, wp_getR (sd_look_new hsc) rfl, wp_bnd, tp_isC T, wp_bnd, c_at T (by omega), chp, wp_bnd, wp_ret, wp_bnd, c_isL (by omega), wp_ite, show n3 p + 1 = n3 (p + 1) from n3_add p 1]
    by_cases cL : isL (u p) = true
    · rw [if_pos cL, if_neg (by decide)]
      have hD : isD (u p) = false := by
        unfold isL at cL
        simp only [Bool.and_eq_true, decide_eq_true_eq] at cL
        unfold isD
        simp only [Bool.and_eq_false_iff, decide_eq_false_iff_not]
        omega
      have en : enP u sz p = run (wch u sz) (sz - (p + 1)) (p + 1) := by
        unfold enP
        rw [if_pos cL]
      have kn : knP u sz p = if enP u sz p - p ≤ 10 then kwI (txP u p (enP u sz p)) else 32 := by
        unfold knP
        rw [if_neg (by rw [hD]; decide), if_pos cL]
      have wc : ∀ k, wch u sz k = (isL (chA u sz k) || isD (chA u sz k)) := by
        intro k
        unfold wch chA
        by_cases c : k < sz
        · rw [if_pos c, decide_eq_true c, Bool.true_and]
        · rw [if_neg c, decide_eq_false c, Bool.false_and]
          rfl
      have run := wp_run (F := fun k s => fX8_next_b47 G k s.1 s.2.1 s.2.2) (h := h) (b := b) (Q := Q) (p := wch u sz) (en := fun k => (sc, n3 p, n3 k)) (R := fun k => wp (sd_bnd (fX2_text G tp (n3 p) (n3 k)) fun r30 => sd_bnd (sd_new 8 3 [.null, .null, .int 0]) fun o31 => sd_bnd (sd_isC G 45 r30) fun _ => sd_bnd (fJ14_length G r30) fun r32 => if r32 ≤ 10 then (sd_bnd (fX8_isKey G r30) fun r33 => if r33 = 0 then (sd_bnd (fX9_init G o31 (sd_ad G 4) r30 (n3 p)) fun _ => sd_ret o31) else (sd_bnd (fX9_init G o31 (sd_ad G 3) r30 (n3 p)) fun _ => sd_ret o31)) else (sd_bnd (fX9_init G o31 (sd_ad G 1) r30 (n3 p)) fun _ => sd_ret o31)) h b Q) sz (fun k => wch_lt) (fun K k hk => ?_) (fun K k hk1 hk => ?_) sd_FU (p + 1) (by omega) (by unfold sd_FU; omega)
      · rw [run, ← en, wp_bnd]
        clear run
        refine c_text w T (by omega) g2 (by omega) (by omega) (fun h' x v g b' w' q1 q2 q3 q4 q5 q6 q7 q8 q9 => ?_)
        rw [wp_bnd]
        refine wp_new (by omega) (by omega) ?_
        have lx := (w'.1 _ _ q1).2
        have lv := (w'.1 _ _ q2).2
        have N : ∀ e : sd_E, nwS h (sd_pu h' e) u x p (enP u sz p) := fun e => ⟨v, g, (pu_ne (by omega)).trans q1, (pu_ne (by omega)).trans q2, q4, q5, q3⟩
        have hlt : ∀ k, p ≤ k → k < enP u sz p → u k < 128 := by
          intro k k1 k2
          have := okN_tx (u := u) (p := p) (sz := sz) cL (u k) (by
            refine List.mem_of_getElem? (i := k - p) ?_
            rw [txP_at (by omega), show p + (k - p) = k by omega])
          unfold isL isD at this
          simp only [Bool.and_eq_true, decide_eq_true_eq] at this
          omega
        have H : ∀ e : sd_E, strH G (sd_pu h' e) x (txP u p (enP u sz p)) := fun e => nwS_H (N e) (by omega) hlt
        have fin : ∀ s, s = srtA G (knP u sz p) → wp (sd_bnd (fX9_init G h'.1 s x (n3 p)) fun _ => sd_ret h'.1) (sd_pu h' (.inr (8, [.null, .null, .int 0]))) (b'.1 - 1, b'.2 - 3) Q := by
          intro s hs
          rw [wp_bnd, c_tok (pu_at h' _), pu_up, wp_ret]
          refine kk _ h'.1 x _ (wfH_pu w') ?_ q6 (fun _ => N _) (show h.1 ≤ h'.1 + 1 by omega) (fun a ha => (pu_ne (by omega)).trans (q7 a ha)) (by simp only; omega) (by simp only; omega)
          rw [if_neg c400, ← hs]
          exact pu_at h' _
        rw [wp_bnd, strH_isC (H _), wp_bnd, strH_len (H _), txP_len, wp_ite]
        by_cases c10 : enP u sz p - p ≤ 10
        · rw [if_pos (by rw [show (10 : Int32) = n3 10 from rfl, n3_le (by omega) (by omega)]; exact c10), wp_bnd, c_isKey (wfH_pu w') hW (H _), wp_ite]
          rw [if_pos c10] at kn
          by_cases ck : kwI (txP u p (enP u sz p)) = 30
          · rw [if_pos ck, if_pos rfl]
            refine fin _ ?_
            rw [kn, ck]
            rfl
          · rw [if_neg ck, if_neg (by decide)]
            refine fin _ ?_
            have := kwI_lt (txP u p (enP u sz p))
            rw [kn]
            unfold srtA
            rw [if_neg (by omega), if_neg (by omega), if_neg (by omega), if_neg (by omega), if_pos (by omega)]
        · rw [if_neg (by rw [show (10 : Int32) = n3 10 from rfl, n3_le (by omega) (by omega)]; exact c10)]
          rw [if_neg c10] at kn
          refine fin _ ?_
          rw [kn]
          rfl
      · have hk2 := wch_lt hk
        rw [wc] at hk
        show wp (fX8_next_b47 G K sc (n3 p) (n3 k)) h b Q = wp (K (sc, n3 p, n3 (k + 1))) h b Q
        unfold fX8_next_b47
        rw [wp_bnd, wp_getR (sd_look_new hsc) rfl, wp_bnd, tp_isC T, wp_bnd, c_at T (by omega), wp_bnd, c_isL (chl k), wp_ite]
        by_cases d1 : isL (chA u sz k) = true
        · rw [if_pos d1, if_neg (by decide), wp_bnd, wp_ret, show n3 k + 1 = n3 (k + 1) from n3_add k 1]
        · have d2 : isD (chA u sz k) = true := by
            rw [Bool.eq_false_iff.mpr d1, Bool.false_or] at hk
            exact hk
          rw [if_neg d1, if_pos rfl, wp_bnd, wp_getR (sd_look_new hsc) rfl, wp_bnd, tp_isC T, wp_bnd, c_at T (by omega), wp_bnd, c_isD (chl k), wp_ite, if_pos d2, if_neg (by decide), wp_bnd, wp_ret, show n3 k + 1 = n3 (k + 1) from n3_add k 1]
      · rw [wc, Bool.or_eq_false_iff] at hk
        show wp (fX8_next_b47 G K sc (n3 p) (n3 k)) h b Q = _
        unfold fX8_next_b47
        rw [wp_bnd, wp_getR (sd_look_new hsc) rfl, wp_bnd, tp_isC T, wp_bnd, c_at T (by omega), wp_bnd, c_isL (chl k), if_neg (show ¬ isL (chA u sz k) = true by rw [hk.1]; decide), wp_ite, if_pos rfl, wp_bnd, wp_getR (sd_look_new hsc) rfl, wp_bnd, tp_isC T, wp_bnd, c_at T (by omega), wp_bnd, c_isD (chl k), if_neg (show ¬ isD (chA u sz k) = true by rw [hk.2]; decide), wp_ite, if_pos rfl, wp_bnd, wp_getR (sd_look_new hsc) rfl, wp_bnd, tp_isC T]
    · have hL : isL (u p) = false := Bool.eq_false_iff.mpr cL
      rw [if_neg cL, if_pos rfl, wp_bnd, c_isD (by omega), wp_ite]
      by_cases cD : isD (u p) = true
      · rw [if_pos cD, if_neg (by decide)]
        have en : enP u sz p = run (dch u sz) (sz - (p + 1)) (p + 1) := by
          unfold enP
          rw [if_neg cL, if_pos cD]
        have kn : knP u sz p = if enP u sz p - p ≤ 6 then 31 else 32 := by
          unfold knP
          rw [if_pos cD]
        have wc : ∀ k, dch u sz k = isD (chA u sz k) := by
          intro k
          unfold dch chA
          by_cases c : k < sz
          · rw [if_pos c, decide_eq_true c, Bool.true_and]
          · rw [if_neg c, decide_eq_false c, Bool.false_and]
            rfl
        have run := wp_run (F := fun k s => fX8_next_b143 G k s.1 s.2.1 s.2.2) (h := h) (b := b) (Q := Q) (p := dch u sz) (en := fun k => (sc, n3 p, n3 k)) (R := fun k => wp (sd_bnd (sd_new 8 3 [.null, .null, .int 0]) fun o18 => if (n3 k - n3 p) ≤ 6 then fX8_next_b252 G sc (n3 p) (n3 k) (sd_ad G 5) o18 o18 else fX8_next_b252 G sc (n3 p) (n3 k) (sd_ad G 1) o18 o18) h b Q) sz (fun k => dch_lt) (fun K k hk => ?_) (fun K k hk1 hk => ?_) sd_FU (p + 1) (by omega) (by unfold sd_FU; omega)
        · rw [run, ← en, wp_bnd]
          clear run
          refine wp_new (by omega) (by omega) ?_
          rw [n3_sub (by omega), wp_ite]
          by_cases c6 : enP u sz p - p ≤ 6
          · rw [if_pos (by rw [show (6 : Int32) = n3 6 from rfl, n3_le (by omega) (by omega)]; exact c6)]
            refine c_mk w T hsc hp c400 ?_ b1 b2 kk
            rw [kn, if_pos c6]
            rfl
          · rw [if_neg (by rw [show (6 : Int32) = n3 6 from rfl, n3_le (by omega) (by omega)]; exact c6)]
            refine c_mk w T hsc hp c400 ?_ b1 b2 kk
            rw [kn, if_neg c6]
            rfl
        · have hk2 := dch_lt hk
          rw [wc] at hk
          show wp (fX8_next_b143 G K sc (n3 p) (n3 k)) h b Q = wp (K (sc, n3 p, n3 (k + 1))) h b Q
          unfold fX8_next_b143
          rw [wp_bnd, wp_getR (sd_look_new hsc) rfl, wp_bnd, tp_isC T, wp_bnd, c_at T (by omega), wp_bnd, c_isD (chl k), wp_ite, if_pos hk, if_neg (by decide), wp_bnd, wp_ret, show n3 k + 1 = n3 (k + 1) from n3_add k 1]
        · rw [wc] at hk
          show wp (fX8_next_b143 G K sc (n3 p) (n3 k)) h b Q = _
          unfold fX8_next_b143
          rw [wp_bnd, wp_getR (sd_look_new hsc) rfl, wp_bnd, tp_isC T, wp_bnd, c_at T (by omega), wp_bnd, c_isD (chl k), if_neg (show ¬ isD (chA u sz k) = true by rw [hk]; decide), wp_ite, if_pos rfl]
          rfl
      · have hD : isD (u p) = false := Bool.eq_false_iff.mpr cD
        have F := c_b226 w hSy T hsc hp c400 hL hD b1 b2 kk
        have en : enP u sz p = if (u p = 60 ∨ u p = 62) ∧ p + 1 < sz ∧ u (p + 1) = 61 then p + 2 else p + 1 := by
          unfold enP
          rw [if_neg cL, if_neg cD]
        have two : (u p = 60 ∨ u p = 62) → wp (fX8_next_b210 G sc (n3 p) (n3 (u p)) (n3 (p + 1))) h b Q := by
          intro h6
          unfold fX8_next_b210
          rw [wp_bnd, wp_getR (sd_look_new hsc) rfl, wp_bnd, tp_isC T, wp_bnd, c_at T (by omega), wp_ite]
          have eq61 : (n3 (chA u sz (p + 1)) = 61) = (p + 1 < sz ∧ u (p + 1) = 61) := by
            rw [show (61 : Int32) = n3 61 from rfl, n3_eq (chl _) (by omega)]
            unfold chA
            apply propext
            by_cases c : p + 1 < sz
            · rw [if_pos c]
              exact ⟨fun q => ⟨c, q⟩, fun q => q.2⟩
            · rw [if_neg c]
              exact ⟨fun q => (by cases q), fun q => absurd q.1 c⟩
          by_cases c6 : p + 1 < sz ∧ u (p + 1) = 61
          · rw [if_pos (by rw [eq61]; exact c6), wp_bnd, wp_ret, show n3 (p + 1) + 1 = n3 (p + 2) from n3_add (p + 1) 1]
            rw [if_pos ⟨h6, c6⟩] at en
            rw [← en]
            exact F
          · rw [if_neg (by rw [eq61]; exact c6)]
            rw [if_neg (fun q => c6 q.2)] at en
            rw [← en]
            exact F
        rw [if_neg cD, if_pos rfl, wp_ite]
        by_cases c60 : u p = 60
        · rw [if_pos (by rw [c60]; rfl)]
          exact two (Or.inl c60)
        · rw [if_neg (by rw [show (60 : Int32) = n3 60 from rfl, n3_eq (by omega) (by omega)]; exact c60), wp_ite]
          by_cases c62 : u p = 62
          · rw [if_pos (by rw [c62]; rfl)]
            exact two (Or.inr c62)
          · rw [if_neg (by rw [show (62 : Int32) = n3 62 from rfl, n3_eq (by omega) (by omega)]; exact c62)]
            rw [if_neg (fun q => by rcases q.1 with q | q; exact c60 q; exact c62 q)] at en
            rw [← en]
            exact F
end NX
