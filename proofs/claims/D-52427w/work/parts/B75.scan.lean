/-! THE PLAIN LAW: the component's scanner -/
def hsh (l : List Nat) : Int32 := l.foldl (fun a c => 31 * a + n3 c) 0
/-- a new string, its hash not told or right -/
def strN (h : sd_H) (x : Nat) (l : List Nat) : Prop := ∃ v hs hz g, h.2 x = some (aS v hs hz) ∧ h.2 v = some (aB l.length g) ∧ (∀ i c, l[i]? = some c → g i = n3 c ∧ c < 128) ∧ l.length ≤ 2000 ∧ (hs = 0 ∨ hs = hsh l) ∧ (hz = 0 ∨ (hz = 1 ∧ hsh l = 0))
theorem strN_H {G : sd_G} {h : sd_H} {x : Nat} {l : List Nat} (H : strN h x l) : strH G h x l := by
  obtain ⟨v, hs, hz, g, e1, e2, e3, e4, -, -⟩ := H
  exact ⟨v, hs, hz, g, sd_look_new e1, sd_look_new e2, e3, e4⟩
/-- cells of lists -/
def isLs : sd_E → Bool
  | .inl (t, _) => decide (t = 4)
  | .inr (d, _) => decide (d = 41)
/-- the tokens, the first k of them -/
def TB (G : sd_G) (u : Nat → Nat) (sz n0 : Nat) (ta tx : Nat → Nat) (k : Nat) (h : sd_H) : Prop := ∀ i, i < k → h.2 (ta i) = some (aTk (srtA G (kdT u sz i)) (tx i) (plT u sz i)) ∧ n0 ≤ ta i ∧ (kdT u sz i ≠ 32 → kdT u sz i ≠ 33 → strN h (tx i) (txT u sz i) ∧ n0 ≤ tx i ∧ ∀ j, j < i → kdT u sz j ≠ 32 → kdT u sz j ≠ 33 → tx j < tx i)
theorem TB_keep {G : sd_G} {u : Nat → Nat} {sz n0 k : Nat} {ta tx : Nat → Nat} {h h' : sd_H} (H : TB G u sz n0 ta tx k h) (hk : ∀ a e, h.2 a = some e → isLs e = false → h'.2 a = some e) : TB G u sz n0 ta tx k h' := by
  intro i hi
  obtain ⟨h1, h2, h3⟩ := H i hi
  refine ⟨hk _ _ h1 rfl, h2, fun c1 c2 => ?_⟩
  obtain ⟨⟨v, hs, hz, g, e1, e2, e3, e4, e5, e6⟩, h4, h5⟩ := h3 c1 c2
  exact ⟨⟨v, hs, hz, g, hk _ _ e1 rfl, hk _ _ e2 rfl, e3, e4, e5, e6⟩, h4, h5⟩
/-- the sorts' constants are six -/
def srD (G : sd_G) : Prop := [sd_ad G 1, sd_ad G 3, sd_ad G 4, sd_ad G 5, sd_ad G 6, sd_ad G 7].Nodup
theorem srt_eq {G : sd_G} (hS : srD G) (k : Nat) : (srtA G k = sd_ad G 1 ↔ k = 32) ∧ (srtA G k = sd_ad G 7 ↔ k = 33) ∧ (srtA G k = sd_ad G 5 ↔ k = 31) ∧ (srtA G k = sd_ad G 4 ↔ k = 30) ∧ (srtA G k = sd_ad G 3 ↔ k < 29) ∧ (srtA G k = sd_ad G 6 ↔ k = 29 ∨ 33 < k) := by
  unfold srD at hS
  simp only [List.nodup_cons, List.mem_cons, List.not_mem_nil, or_false, not_or, List.nodup_nil, and_true, not_false_eq_true] at hS
  obtain ⟨⟨a1, a2, a3, a4, a5⟩, ⟨b1, b2, b3, b4⟩, ⟨c1, c2, c3⟩, ⟨d1, d2⟩, e1⟩ := hS
  unfold srtA
  by_cases k1 : k = 32
  · simp only [if_pos k1]
    refine ⟨⟨fun _ => k1, fun _ => trivial⟩, ⟨fun q => absurd q a5, fun q => by omega⟩, ⟨fun q => absurd q a3, fun q => by omega⟩, ⟨fun q => absurd q a2, fun q => by omega⟩, ⟨fun q => absurd q a1, fun q => by omega⟩, ⟨fun q => absurd q a4, fun q => by omega⟩⟩
  · simp only [if_neg k1]
    by_cases k2 : k = 33
    · simp only [if_pos k2]
      refine ⟨⟨fun q => absurd q.symm a5, fun q => by omega⟩, ⟨fun _ => k2, fun _ => trivial⟩, ⟨fun q => absurd q.symm d2, fun q => by omega⟩, ⟨fun q => absurd q.symm c3, fun q => by omega⟩, ⟨fun q => absurd q.symm b4, fun q => by omega⟩, ⟨fun q => absurd q.symm e1, fun q => by omega⟩⟩
    · simp only [if_neg k2]
      by_cases k3 : k = 31
      · simp only [if_pos k3]
        refine ⟨⟨fun q => absurd q.symm a3, fun q => by omega⟩, ⟨fun q => absurd q d2, fun q => by omega⟩, ⟨fun _ => k3, fun _ => trivial⟩, ⟨fun q => absurd q.symm c1, fun q => by omega⟩, ⟨fun q => absurd q.symm b2, fun q => by omega⟩, ⟨fun q => absurd q d1, fun q => by omega⟩⟩
      · simp only [if_neg k3]
        by_cases k4 : k = 30
        · simp only [if_pos k4]
          refine ⟨⟨fun q => absurd q.symm a2, fun q => by omega⟩, ⟨fun q => absurd q c3, fun q => by omega⟩, ⟨fun q => absurd q c1, fun q => by omega⟩, ⟨fun _ => k4, fun _ => trivial⟩, ⟨fun q => absurd q.symm b1, fun q => by omega⟩, ⟨fun q => absurd q c2, fun q => by omega⟩⟩
        · simp only [if_neg k4]
          by_cases k5 : k < 29
          · simp only [if_pos k5]
            refine ⟨⟨fun q => absurd q.symm a1, fun q => by omega⟩, ⟨fun q => absurd q b4, fun q => by omega⟩, ⟨fun q => absurd q b2, fun q => by omega⟩, ⟨fun q => absurd q b1, fun q => by omega⟩, ⟨fun _ => k5, fun _ => trivial⟩, ⟨fun q => absurd q b3, fun q => by omega⟩⟩
          · simp only [if_neg k5]
            refine ⟨⟨fun q => absurd q.symm a4, fun q => by omega⟩, ⟨fun q => absurd q e1, fun q => by omega⟩, ⟨fun q => absurd q.symm d1, fun q => by omega⟩, ⟨fun q => absurd q.symm c2, fun q => by omega⟩, ⟨fun q => absurd q.symm b3, fun q => by omega⟩, ⟨fun _ => by omega, fun _ => trivial⟩⟩
theorem knP_33 {u : Nat → Nat} {sz p : Nat} : knP u sz p ≠ 33 := by
  unfold knP
  have := kwI_lt (txP u p (enP u sz p))
  split
  · split <;> omega
  · split
    · split <;> omega
    · split
      · omega
      · split
        · next h =>
          unfold sym at h
          simp only [Bool.or_eq_true, decide_eq_true_eq] at h
          omega
        · omega
section SCN
variable {G : sd_G} {b : Nat × Nat} {tp bt sz sc tl n0 : Nat} {u : Nat → Nat}
theorem ls_keep {h : sd_H} {z a r cap s : Nat} {mc : Int32} {f : Nat → Option Nat} {e : sd_E} (w : wfH G h) (L : lsO G h a mc r s cap f) (hz : h.2 z = some e) (he : isLs e = false) : z ≠ a ∧ z ≠ r := by
  obtain ⟨L1, L2, -, -⟩ := L
  constructor
  · rintro rfl
    rw [hz] at L1
    cases L1
    cases he
  · rintro rfl
    rcases L2 with ⟨q, -, -⟩ | ⟨q, -, -⟩
    · rw [q, (wfH_z0 w).1] at hz
      cases hz
    · rw [hz] at q
      cases q
      cases he
theorem okQ_tk {h : sd_H} {a s x p : Nat} (ha : h.2 a = some (aTk s x p)) : sd_okQ G h 4 (some a) = true := by
  unfold sd_okQ
  simp only [sd_look_new ha]
  rfl
/-- between two steps of the scanner -/
def AI (G : sd_G) (u : Nat → Nat) (tp bt sz sc tl n0 : Nat) (h0 : sd_H) (b0 : Nat × Nat) (p i : Nat) (h : sd_H) (b : Nat × Nat) : Prop := wfH G h ∧ tapH h tp bt sz u ∧ h.2 sc = some (.inr (7, [.ref tp, .ref tl])) ∧ (∃ mc r cap f ta tx, lsO G h tl mc r i cap f ∧ (r = sd_ad G 0 ∨ n0 ≤ r) ∧ (∀ j, j < i → f j = some (ta j)) ∧ TB G u sz n0 ta tx i h) ∧ n0 ≤ tl ∧ p ≤ sz ∧ skp u sz p = plT u sz i ∧ i ≤ nT u sz ∧ n0 ≤ h.1 ∧ (∀ a, a < n0 → h.2 a = h0.2 a) ∧ b0.1 ≤ b.1 + 7 * p ∧ b0.2 ≤ b.2 + 900 * p
/-- the tokens are a list -/
def AQ (G : sd_G) (u : Nat → Nat) (sz tl n0 : Nat) (h0 : sd_H) (h : sd_H) : Prop := wfH G h ∧ (∃ mc r cap f ta tx, lsO G h tl mc r (nT u sz + 1) cap f ∧ n0 ≤ r ∧ (∀ j, j ≤ nT u sz → f j = some (ta j)) ∧ TB G u sz n0 ta tx (nT u sz + 1) h) ∧ n0 ≤ h.1 ∧ ∀ a, a < n0 → h.2 a = h0.2 a
/-- a token more in the list -/
theorem c_addT {h0 h : sd_H} {mc : Int32} {r cap i tk x : Nat} {f : Nat → Option Nat} {ta tx : Nat → Nat} {Q : Int32 → sd_H → Nat × Nat → Prop} (w : wfH G h) (L : lsO G h tl mc r i cap f) (hr : r = sd_ad G 0 ∨ n0 ≤ r) (hf : ∀ j, j < i → f j = some (ta j)) (B : TB G u sz n0 ta tx i h) (htl : n0 ≤ tl) (hn : n0 ≤ h.1) (hfr : ∀ a, a < n0 → h.2 a = h0.2 a) (hi : i ≤ 400) (ht : h.2 tk = some (aTk (srtA G (kdT u sz i)) x (plT u sz i))) (htn : n0 ≤ tk) (hx : kdT u sz i ≠ 32 → kdT u sz i ≠ 33 → strN h x (txT u sz i) ∧ n0 ≤ x ∧ ∀ j, j < i → kdT u sz j ≠ 32 → kdT u sz j ≠ 33 → tx j < x) (b1 : 1 ≤ b.1) (b2 : 810 ≤ b.2)
    (kk : ∀ h' mc' r' cap' f' b', wfH G h' → lsO G h' tl mc' r' (i + 1) cap' f' → n0 ≤ r' → (∀ j, j < i + 1 → f' j = some (updN ta i tk j)) → TB G u sz n0 (updN ta i tk) (updN tx i x) (i + 1) h' → n0 ≤ h'.1 → (∀ a, a < n0 → h'.2 a = h0.2 a) → (∀ a e, h.2 a = some e → isLs e = false → h'.2 a = some e) → b.1 ≤ b'.1 + 1 → b.2 ≤ b'.2 + 810 → Q 1 h' b') : wp (fJ2_add G tl tk) h b Q := by
  refine g_add w L (by omega) (fun j hj => ?_) (okQ_tk ht) b1 (by omega) (fun h' r' cap' f' b' w' L' q1 q2 q3 q4 q5 q6 q7 => ?_)
  · rw [hf j hj]
    exact okQ_tk (B j hj).1
  · have kp : ∀ a e, h.2 a = some e → isLs e = false → h'.2 a = some e := by
      intro a e ha he
      have := ls_keep w L ha he
      exact (q5 a this.1 this.2 (w.1 _ _ ha).2).trans ha
    have hr' : n0 ≤ r' := by
      rcases q4 with ⟨z1, z2⟩ | ⟨z1, z2, z3, z4⟩
      · rcases hr with hr | hr
        · obtain ⟨-, L2, L3, -⟩ := L
          obtain ⟨-, L2', L3', -⟩ := L'
          rcases L2' with ⟨y1, y2, y3⟩ | ⟨y1, y2, y3⟩
          · omega
          · rw [z2, hr, (wfH_z0 w').1] at y1
            cases y1
        · omega
      · omega
    refine kk h' (mc + 1) r' cap' f' b' w' L' hr' (fun j hj => ?_) (fun j hj => ?_) (by omega) (fun a ha => ?_) kp q6 (by omega)
    · by_cases c : j = i
      · rw [c, updN_same]
        exact q2
      · rw [updN_ne c, q1 j (by omega)]
        exact hf j (by omega)
    · by_cases c : j = i
      · subst c
        rw [updN_same, updN_same]
        refine ⟨kp _ _ ht rfl, htn, fun c1 c2 => ?_⟩
        obtain ⟨⟨v, hs, hz, g, e1, e2, e3, e4, e5, e6⟩, x1, x2⟩ := hx c1 c2
        refine ⟨⟨v, hs, hz, g, kp _ _ e1 rfl, kp _ _ e2 rfl, e3, e4, e5, e6⟩, x1, fun j' hj' d1 d2 => ?_⟩
        rw [updN_ne (by omega)]
        exact x2 j' hj' d1 d2
      · obtain ⟨t1, t2, t3⟩ := TB_keep B kp j (by omega)
        rw [updN_ne c, updN_ne c]
        refine ⟨t1, t2, fun c1 c2 => ?_⟩
        obtain ⟨t4, t5, t6⟩ := t3 c1 c2
        refine ⟨t4, t5, fun j' hj' d1 d2 => ?_⟩
        rw [updN_ne (by omega)]
        exact t6 j' hj' d1 d2
    · by_cases c : a = r
      · have e0 : r = sd_ad G 0 := by omega
        rw [c, e0, (wfH_z0 w').1, ← (wfH_z0 w).1, ← e0, ← c]
        exact hfr a ha
      · exact (q5 a (by omega) c (by omega)).trans (hfr a ha)
theorem isBl {h : sd_H} {c : Nat} {Q : Int32 → sd_H → Nat × Nat → Prop} (hc : c < 2147483648) : wp (fX8_isBlank G (n3 c)) h b Q = Q (if c = 32 ∨ c = 10 then 1 else 0) h b := by
  unfold fX8_isBlank
  rw [wp_ite]
  by_cases c1 : c = 32
  · rw [if_pos (by rw [c1]; rfl), wp_ret, if_pos (Or.inl c1)]
  · rw [if_neg (by rw [show (32 : Int32) = n3 32 from rfl, n3_eq (by omega) (by omega)]; exact c1), wp_ite]
    by_cases c2 : c = 10
    · rw [if_pos (by rw [c2]; rfl), wp_ret, if_pos (Or.inr c2)]
    · rw [if_neg (by rw [show (10 : Int32) = n3 10 from rfl, n3_eq (by omega) (by omega)]; exact c2), wp_ret, if_neg (by omega)]
theorem c_scan {h0 : sd_H} {b0 : Nat × Nat} {Q : Nat → sd_H → Nat × Nat → Prop} (hS : srD G) (hW : strsC G (sd_ad G 2) kws) (hSy : strC G (sd_ad G 102) syms) (hb1 : 7 * sz + 20 ≤ b0.1) (hb2 : 1000 * sz + 3000 ≤ b0.2)
    (kk : ∀ h b, AQ G u sz tl n0 h0 h → b0.1 ≤ b.1 + (7 * sz + 10) → b0.2 ≤ b.2 + (1000 * sz + 2000) → Q tl h b) : ∀ fuel p i h b, sz - p < fuel → AI G u tp bt sz sc tl n0 h0 b0 p i h b → wp (sd_loop (fun k s => fX8_all_b2 G k s.1 s.2) fuel (sc, n3 p)) h b Q := by
  intro fuel
  induction fuel with
  | zero => intro p i h b hf; omega
  | succ fuel ih =>
    intro p i h b hf A
    obtain ⟨w, T, hsc, ⟨mc, r, cap, f, ta, tx, L, hr, hta, B⟩, htl, hp, hsk, hin, hn, hfr, c1, c2⟩ := A
    have h400 := nT_le (u := u) (sz := sz)
    obtain ⟨hsz, hup, hts⟩ : sz ≤ 2000 ∧ (∀ k, k < sz → u k < 256) ∧ wp (sd_getI G 1 1 tp) h b (fun z h' b' => z = n3 sz ∧ h' = h ∧ b' = b) := by
      obtain ⟨bs, t1, t2, t3, t4⟩ := T
      refine ⟨t4, fun k hk => (t3 k hk).2, ?_⟩
      rw [wp_getI (sd_look_new t1) rfl]
      exact ⟨rfl, rfl, rfl⟩
    show wp (fX8_all_b2 G (sd_loop (fun k s => fX8_all_b2 G k s.1 s.2) fuel) sc (n3 p)) h b Q
    unfold fX8_all_b2
    rw [wp_bnd, wp_getR (sd_look_new hsc) rfl, wp_bnd, wp_det hts, wp_ite]
    by_cases cp : sz ≤ p
    · rw [if_pos (by rw [n3_le (by omega) (by omega)]; exact cp), wp_bnd, wp_getR (sd_look_new hsc) rfl, wp_bnd]
      have ep : p = sz := by omega
      have e1 : plT u sz i = sz := by
        rw [← hsk, ep]
        have h1 := skp_ge (u := u) (sz := sz) (p := sz)
        have h2 := skp_le (u := u) (sz := sz) (p := sz) (Nat.le_refl _)
        omega
      have ek : kdT u sz i = 33 := by
        unfold kdT
        rw [if_pos (by omega)]
      have eN : i = nT u sz := by
        by_cases c : i = nT u sz
        · exact c
        · exact absurd ek (tk_lt (show i < nT u sz by omega)).2.2.2.2
      refine wp_new (by omega) (by omega) ?_
      have lsc := (w.1 _ _ hsc).2
      have l1 : sd_look G (sd_pu h (.inr (8, [.null, .null, .int 0]))) sc = some (.inr (7, [.ref tp, .ref tl])) := (look_eq (pu_ne (by omega))).trans (sd_look_new hsc)
      have T' : tapH (sd_pu h (.inr (8, [.null, .null, .int 0]))) tp bt sz u := tapH_fr w T (fun a ha => pu_ne (by omega))
      have g6 : ∀ b (Q : Int32 → sd_H → Nat × Nat → Prop), wp (sd_getI G 1 1 tp) (sd_pu h (.inr (8, [.null, .null, .int 0]))) b Q = Q (n3 sz) (sd_pu h (.inr (8, [.null, .null, .int 0]))) b := by
        obtain ⟨bs, t1, t2, t3, t4⟩ := T'
        exact fun b Q => wp_getI (sd_look_new t1) rfl
      rw [wp_bnd, wp_getR l1 rfl, wp_bnd, g6, wp_bnd, c_tok (pu_at h _), pu_up]
      have w1 : wfH G (sd_pu h (aTk (sd_ad G 7) (sd_ad G 100) sz)) := wfH_pu w
      have kp : ∀ a e, h.2 a = some e → (sd_pu h (aTk (sd_ad G 7) (sd_ad G 100) sz)).2 a = some e := fun a e ha => (pu_ne (by have := (w.1 _ _ ha).2; omega)).trans ha
      have L1 : lsO G (sd_pu h (aTk (sd_ad G 7) (sd_ad G 100) sz)) tl mc r i cap f := by
        obtain ⟨x1, x2, x3, x4⟩ := L
        refine ⟨kp _ _ x1, ?_, x3, x4⟩
        rcases x2 with x2 | ⟨y1, y2, y3⟩
        · exact Or.inl x2
        · exact Or.inr ⟨kp _ _ y1, y2, y3⟩
      rw [wp_bnd, wp_isC (sd_look_new L1.1), wp_bnd]
      refine c_addT (h0 := h0) (x := sd_ad G 100) w1 L1 hr hta (TB_keep B (fun a e ha _ => kp a e ha)) htl (show n0 ≤ h.1 + 1 by omega) (fun a ha => (pu_ne (by omega)).trans (hfr a ha)) (by omega) ?_ hn (fun _ c => absurd ek c) (by simp only; omega) (by simp only; omega) (fun h' mc' r' cap' f' b' w' L' q1 q2 q3 q4 q5 q6 q7 q8 => ?_)
      · rw [ek, e1]
        exact pu_at h _
      · have s1 : h'.2 sc = some (.inr (7, [.ref tp, .ref tl])) := q6 _ _ (kp _ _ hsc) rfl
        rw [wp_bnd, wp_getR (sd_look_new s1) rfl, wp_ret]
        rw [eN] at L' q2 q3
        exact kk h' b' ⟨w', ⟨mc', r', cap', f', _, _, L', q1, fun j hj => q2 j (by omega), q3⟩, q4, q5⟩ (by simp only at q7; omega) (by simp only at q8; omega)
    · have hps : p < sz := by omega
      have chp : chA u sz p = u p := if_pos hps
      have hu := hup p hps
      rw [if_neg (by rw [n3_le (by omega) (by omega)]; exact cp), wp_bnd, wp_getR (sd_look_new hsc) rfl, wp_bnd, tp_isC T, wp_bnd, c_at T (by omega), chp, wp_bnd, isBl (by omega), wp_ite]
      by_cases cb : u p = 32 ∨ u p = 10
      · rw [if_pos cb, if_neg (by decide), wp_bnd, wp_ret, show n3 p + 1 = n3 (p + 1) from n3_add p 1]
        refine ih (p + 1) i h b (by omega) ⟨w, T, hsc, ⟨mc, r, cap, f, ta, tx, L, hr, hta, B⟩, htl, hps, ?_, hin, hn, hfr, by omega, by omega⟩
        rw [← hsk]
        unfold skp
        refine (run_st (p := blk u sz) ?_ hps).symm
        unfold blk
        simp only [Bool.and_eq_true, Bool.or_eq_true, decide_eq_true_eq]
        exact ⟨hps, cb⟩
      · have bf : blk u sz p = false := by
          unfold blk
          rw [decide_eq_true hps, Bool.true_and, Bool.or_eq_false_iff, decide_eq_false_iff_not, decide_eq_false_iff_not]
          exact ⟨fun q => cb (Or.inl q), fun q => cb (Or.inr q)⟩
        have epl : plT u sz i = p := by
          rw [← hsk]
          exact run_fix bf _
        have ek : kdT u sz i = if i = 400 then 32 else knP u sz p := by
          unfold kdT
          rw [epl, if_neg cp]
        have g1 : p < enP u sz p := enP_gt
        have g2 : enP u sz p ≤ sz := enP_le hps
        rw [if_neg cb, if_pos rfl, wp_bnd, wp_isC (sd_look_new hsc), wp_bnd]
        refine c_next w hW hSy T hsc (sd_look_new L.1) hps (by omega) (by omega) (by omega) (fun h1 tk x b1 w1 q1 q2 q3 q4 q5 q6 q7 => ?_)
        have kp : ∀ a e, h.2 a = some e → h1.2 a = some e := fun a e ha => (q5 a (w.1 _ _ ha).2).trans ha
        have L1 : lsO G h1 tl mc r i cap f := by
          obtain ⟨x1, x2, x3, x4⟩ := L
          refine ⟨kp _ _ x1, ?_, x3, x4⟩
          rcases x2 with x2 | ⟨y1, y2, y3⟩
          · exact Or.inl x2
          · exact Or.inr ⟨kp _ _ y1, y2, y3⟩
        have s1 := kp _ _ hsc
        rw [wp_bnd, wp_getR (sd_look_new s1) rfl, wp_bnd, wp_isC (sd_look_new L1.1), wp_bnd]
        rw [← ek, ← epl] at q1
        have hx : kdT u sz i ≠ 32 → kdT u sz i ≠ 33 → strN h1 x (txT u sz i) ∧ h.1 ≤ x := by
          intro d1 d2
          have i4 : i ≠ 400 := by
            intro q
            rw [if_pos q] at ek
            exact d1 ek
          rw [if_neg i4] at ek
          obtain ⟨v, g, r1, r2, r3, r4, r5⟩ := q3 i4
          have hlt : ∀ k, p ≤ k → k < enP u sz p → u k < 128 := by
            intro k k1 k2
            have hm : u k ∈ txP u p (enP u sz p) := by
              refine List.mem_of_getElem? (i := k - p) ?_
              rw [txP_at (by omega), show p + (k - p) = k by omega]
            by_cases cD : isD (u p) = true
            · have := dig_tx (u := u) (p := p) (sz := sz) cD (u k) hm
              unfold isD at this
              simp only [Bool.and_eq_true, decide_eq_true_eq] at this
              omega
            · by_cases cL : isL (u p) = true
              · have := okN_tx (u := u) (p := p) (sz := sz) cL (u k) hm
                unfold isL isD at this
                simp only [Bool.and_eq_true, decide_eq_true_eq] at this
                omega
              · have kn : knP u sz p = if enP u sz p - p = 2 then 256 + u p else if sym (u p) = true then u p else 32 := by
                  unfold knP
                  rw [if_neg cD, if_neg cL]
                have en : enP u sz p = if (u p = 60 ∨ u p = 62) ∧ p + 1 < sz ∧ u (p + 1) = 61 then p + 2 else p + 1 := by
                  unfold enP
                  rw [if_neg cL, if_neg cD]
                by_cases c6 : (u p = 60 ∨ u p = 62) ∧ p + 1 < sz ∧ u (p + 1) = 61
                · rw [if_pos c6] at en
                  have : k = p ∨ k = p + 1 := by omega
                  rcases this with rfl | rfl <;> omega
                · rw [if_neg c6] at en
                  rw [if_neg (by omega)] at kn
                  have ekp : k = p := by omega
                  by_cases cs : sym (u p) = true
                  · rw [ekp]
                    unfold sym at cs
                    simp only [Bool.or_eq_true, decide_eq_true_eq] at cs
                    omega
                  · rw [if_neg cs] at kn
                    exact absurd (ek.trans kn) d1
          have H := nwS_H (G := G) ⟨v, g, r1, r2, r3, r4, r5⟩ (by omega) hlt
          obtain ⟨v', hs', hz', g', y1, y2, y3, y4⟩ := H
          rw [sd_look_new r1] at y1
          cases y1
          rw [sd_look_new r2] at y2
          rw [txP_len] at y2
          cases y2
          refine ⟨⟨v, 0, 0, g, r1, ?_, ?_, ?_, Or.inl rfl, Or.inl rfl⟩, r3⟩
          · show h1.2 v = some (aB (txP u (plT u sz i) (enP u sz (plT u sz i))).length g)
            rw [txP_len, epl]
            exact r2
          · show ∀ i' c, (txP u (plT u sz i) (enP u sz (plT u sz i)))[i']? = some c → g i' = n3 c ∧ c < 128
            rw [epl]
            exact y3
          · show (txP u (plT u sz i) (enP u sz (plT u sz i))).length ≤ 2000
            rw [epl]
            exact y4
        have B1 : TB G u sz n0 ta tx i h1 := TB_keep B (fun a e ha _ => kp a e ha)
        refine c_addT (h0 := h0) (x := x) w1 L1 hr hta B1 htl (by omega) (fun a ha => (q5 a (by omega)).trans (hfr a ha)) (by omega) q1 (by omega) (fun d1 d2 => ?_) (by omega) (by omega) (fun h2 mc' r' cap' f' b2 w2 L2 z1 z2 z3 z4 z5 z6 z7 z8 => ?_)
        · obtain ⟨y1, y2⟩ := hx d1 d2
          refine ⟨y1, by omega, fun j hj e1 e2 => ?_⟩
          obtain ⟨⟨v, hs, hz, g, y3, -⟩, -⟩ := (B j hj).2.2 e1 e2
          have := (w.1 _ _ y3).2
          omega
        · have t2 := z6 _ _ q1 rfl
          have s2 := z6 _ _ s1 rfl
          rw [wp_bnd, wp_getR (sd_look_new t2) rfl, wp_ite]
          by_cases c32 : kdT u sz i = 32
          · rw [if_pos ((srt_eq hS _).1.mpr c32), wp_bnd, wp_getR (sd_look_new s2) rfl, wp_ret]
            have eN : i = nT u sz := by
              by_cases c : i = nT u sz
              · exact c
              · have := tk_lt (show i < nT u sz by omega)
                rw [this.2.2.1] at c32
                exact absurd c32 this.2.2.2.1
            rw [eN] at L2 z2 z3
            refine kk h2 b2 ⟨w2, ⟨mc', r', cap', f', _, _, L2, z1, fun j hj => z2 j (by omega), z3⟩, z4, z5⟩ (by omega) (by omega)
          · have i4 : i ≠ 400 := by
              intro q
              rw [if_pos q] at ek
              exact c32 ek
            rw [if_neg i4] at ek
            have k33 : kdT u sz i ≠ 33 := by
              rw [ek]
              exact knP_33
            have iN : i < nT u sz := by
              by_cases c : i = nT u sz
              · have := nT_stop (u := u) (sz := sz)
                unfold spT at this
                simp only [Bool.or_eq_true, decide_eq_true_eq] at this
                rw [← c] at this
                omega
              · omega
            have T2 : tapH h2 tp bt sz u := by
              obtain ⟨bs, t1', t2', t3', t4'⟩ := tapH_fr w T q5
              exact ⟨bs, z6 _ _ t1' rfl, z6 _ _ t2' rfl, t3', t4'⟩
            have H2 : strN h2 x (txT u sz i) := by
              have := (z3 i (by omega)).2.2 c32 k33
              rw [updN_same] at this
              exact this.1
            have ln : (txT u sz i).length = enP u sz p - p := by
              unfold txT
              rw [txP_len, epl]
            rw [if_neg (fun q => c32 ((srt_eq hS _).1.mp q)), wp_bnd, wp_getR (sd_look_new t2) rfl, wp_bnd, strH_isC (strN_H H2), wp_bnd, strH_len (strN_H H2), wp_bnd, wp_ret, ln, n3_add, show p + (enP u sz p - p) = enP u sz p by omega]
            refine ih (enP u sz p) (i + 1) h2 b2 (by omega) ⟨w2, T2, s2, ⟨mc', r', cap', f', _, _, L2, Or.inr z1, z2, z3⟩, htl, g2, ?_, iN, z4, z5, by omega, by omega⟩
            show skp u sz (enP u sz p) = skp u sz (enP u sz (plT u sz i))
            rw [epl]
end SCN
