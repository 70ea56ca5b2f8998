/-! THE PLAIN LAW: what the component answers: reads. Printed by gen/mk_B34.py -/
def ixA (a : Int32) (n : Nat) (f : Nat → Int32 ⊕ Nat) : Int32 ⊕ Nat := match inR a n with
  | some s => f s
  | none => .inr 50
theorem ixA_ok {s n : Nat} {f : Nat → Int32 ⊕ Nat} (h : s < n) (hn : n ≤ 1000000) : ixA (n3 s) n f = f s := by
  unfold ixA
  rw [inR_some h hn]
theorem ixA_bad {a : Int32} {n : Nat} {f : Nat → Int32 ⊕ Nat} (h : inR a n = none) : ixA a n f = .inr 50 := by
  unfold ixA
  rw [h]
/-- a number or an exception, if something is so -/
def stA (c : Prop) [Decidable c] (v : Int32 ⊕ Nat) : Int32 ⊕ Nat := if c then v else .inr 48
/-- what an asked component does: its own predicate with the state t', the frame, the cost -/
def CO (G : sd_G) (cx tp bt s0 E1 : Nat) (B : Nat → Nat) (Z : Nat → Prop) (q : Nat → Nat) (x : Nat → Nat → Int32) (ea : Int32) (sz : Nat) (bs : Nat → Int32) {α : Type} (f : sd_M α) (h : sd_H) (t' : TT) (R : sd_H → α → Prop) : Prop := ∀ (b : Nat × Nat) (Q : α → sd_H → Nat × Nat → Prop), 2500 ≤ b.1 → 30000 ≤ b.2 → (∀ r h' b', CI G cx tp bt s0 E1 B Z q x ea sz bs h' t' → fr h h' E1 (B 1) → b.1 ≤ b'.1 + 2500 → b.2 ≤ b'.2 + 30000 → R h' r → Q r h' b') → wp f h b Q
theorem cnv_0 {z : Int32} (h : z = 0 ∨ z = 1 ∨ z = 2) : (cnv z = 0) = (z = 0) := by
  rcases h with rfl | rfl | rfl <;> decide
theorem cnv_is1 {z : Int32} (h : z = 0 ∨ z = 1 ∨ z = 2) : (cnv z = 1) = (z = 2) := by
  rcases h with rfl | rfl | rfl <;> decide
theorem nar_01 {z : Int32} (h : z = 0 ∨ z = 1) : narrow .boolean (.int z) = .int z := by
  rcases h with rfl | rfl <;> rfl
section CAP
variable {t : TT} {G : sd_G} {cx tp bt s0 E1 : Nat} {B : Nat → Nat} {Z : Nat → Prop} {q : Nat → Nat} {x : Nat → Nat → Int32} {ea : Int32} {sz : Nat} {bs : Nat → Int32} {h : sd_H}
theorem a_errorAt (C : CI G cx tp bt s0 E1 B Z q x ea sz bs h t) {b : Nat × Nat} {Q : Int32 → sd_H → Nat × Nat → Prop} : wp (fX1_errorAt G cx) h b Q = Q (ea) h b := by
  obtain ⟨r1, r2, r3, r4, r5, r6⟩ := c_rd C
  obtain ⟨o0, o1, o8, o9, o10, o11, o12, o6, oe⟩ := c_so C
  obtain ⟨f3, f4, l1, l2, l3, l4, l5, l6, l7⟩ := c_ls C
  unfold fX1_errorAt
  simp only [↓wp_bnd, ↓wp_ret, ↓wp_ite, ↓reduceIte, r3]
theorem a_seats (C : CI G cx tp bt s0 E1 B Z q x ea sz bs h t) {b : Nat × Nat} {Q : Int32 → sd_H → Nat × Nat → Prop} : wp (fX1_seats G cx) h b Q = Q (n3 (q 20)) h b := by
  obtain ⟨r1, r2, r3, r4, r5, r6⟩ := c_rd C
  obtain ⟨o0, o1, o8, o9, o10, o11, o12, o6, oe⟩ := c_so C
  obtain ⟨f3, f4, l1, l2, l3, l4, l5, l6, l7⟩ := c_ls C
  unfold fX1_seats
  simp only [↓wp_bnd, ↓wp_ret, ↓wp_ite, ↓reduceIte, r4, o1]
theorem a_strata (C : CI G cx tp bt s0 E1 B Z q x ea sz bs h t) {b : Nat × Nat} {Q : Int32 → sd_H → Nat × Nat → Prop} : wp (fX1_strata G cx) h b Q = Q (n3 (q 21)) h b := by
  obtain ⟨r1, r2, r3, r4, r5, r6⟩ := c_rd C
  obtain ⟨o0, o1, o8, o9, o10, o11, o12, o6, oe⟩ := c_so C
  obtain ⟨f3, f4, l1, l2, l3, l4, l5, l6, l7⟩ := c_ls C
  unfold fX1_strata
  simp only [↓wp_bnd, ↓wp_ret, ↓wp_ite, ↓reduceIte, r4, o0]
theorem a_finds (C : CI G cx tp bt s0 E1 B Z q x ea sz bs h t) {b : Nat × Nat} {Q : Int32 → sd_H → Nat × Nat → Prop} : wp (fX1_finds G cx) h b Q = Q (n3 (q 26)) h b := by
  obtain ⟨r1, r2, r3, r4, r5, r6⟩ := c_rd C
  obtain ⟨o0, o1, o8, o9, o10, o11, o12, o6, oe⟩ := c_so C
  obtain ⟨f3, f4, l1, l2, l3, l4, l5, l6, l7⟩ := c_ls C
  unfold fX1_finds
  simp only [↓wp_bnd, ↓wp_ret, ↓wp_ite, ↓reduceIte, r4, l4, l5, l6]
theorem a_days (C : CI G cx tp bt s0 E1 B Z q x ea sz bs h t) {b : Nat × Nat} {Q : Int32 → sd_H → Nat × Nat → Prop} : wp (fX1_days G cx) h b Q = Q (t.1 0) h b := by
  obtain ⟨r1, r2, r3, r4, r5, r6⟩ := c_rd C
  obtain ⟨o0, o1, o8, o9, o10, o11, o12, o6, oe⟩ := c_so C
  obtain ⟨f3, f4, l1, l2, l3, l4, l5, l6, l7⟩ := c_ls C
  unfold fX1_days
  simp only [↓wp_bnd, ↓wp_ret, ↓wp_ite, ↓reduceIte, r4, o8]
theorem a_ordersCarriedOut (C : CI G cx tp bt s0 E1 B Z q x ea sz bs h t) {b : Nat × Nat} {Q : Int32 → sd_H → Nat × Nat → Prop} : wp (fX1_ordersCarriedOut G cx) h b Q = Q (t.1 1) h b := by
  obtain ⟨r1, r2, r3, r4, r5, r6⟩ := c_rd C
  obtain ⟨o0, o1, o8, o9, o10, o11, o12, o6, oe⟩ := c_so C
  obtain ⟨f3, f4, l1, l2, l3, l4, l5, l6, l7⟩ := c_ls C
  unfold fX1_ordersCarriedOut
  simp only [↓wp_bnd, ↓wp_ret, ↓wp_ite, ↓reduceIte, r4, o9]
theorem a_cushionsDug (C : CI G cx tp bt s0 E1 B Z q x ea sz bs h t) {b : Nat × Nat} {Q : Int32 → sd_H → Nat × Nat → Prop} : wp (fX1_cushionsDug G cx) h b Q = Q (t.1 2) h b := by
  obtain ⟨r1, r2, r3, r4, r5, r6⟩ := c_rd C
  obtain ⟨o0, o1, o8, o9, o10, o11, o12, o6, oe⟩ := c_so C
  obtain ⟨f3, f4, l1, l2, l3, l4, l5, l6, l7⟩ := c_ls C
  unfold fX1_cushionsDug
  simp only [↓wp_bnd, ↓wp_ret, ↓wp_ite, ↓reduceIte, r4, o10]
theorem a_slides (C : CI G cx tp bt s0 E1 B Z q x ea sz bs h t) {b : Nat × Nat} {Q : Int32 → sd_H → Nat × Nat → Prop} : wp (fX1_slides G cx) h b Q = Q (t.1 3) h b := by
  obtain ⟨r1, r2, r3, r4, r5, r6⟩ := c_rd C
  obtain ⟨o0, o1, o8, o9, o10, o11, o12, o6, oe⟩ := c_so C
  obtain ⟨f3, f4, l1, l2, l3, l4, l5, l6, l7⟩ := c_ls C
  unfold fX1_slides
  simp only [↓wp_bnd, ↓wp_ret, ↓wp_ite, ↓reduceIte, r4, o11]
theorem a_found (C : CI G cx tp bt s0 E1 B Z q x ea sz bs h t) {b : Nat × Nat} {Q : Int32 → sd_H → Nat × Nat → Prop} : wp (fX1_found G cx) h b Q = Q (cnt (fndB t 1) (q 26)) h b := by
  obtain ⟨r1, r2, r3, r4, r5, r6⟩ := c_rd C
  obtain ⟨o0, o1, o8, o9, o10, o11, o12, o6, oe⟩ := c_so C
  obtain ⟨f3, f4, l1, l2, l3, l4, l5, l6, l7⟩ := c_ls C
  unfold fX1_found
  simp only [↓wp_bnd, ↓wp_ret, ↓wp_ite, ↓reduceIte, r4, o12, c_found C]
theorem a_sureFinds (C : CI G cx tp bt s0 E1 B Z q x ea sz bs h t) {b : Nat × Nat} {Q : Int32 → sd_H → Nat × Nat → Prop} : wp (fX1_sureFinds G cx) h b Q = Q (cnt (fndB t 2) (q 26)) h b := by
  obtain ⟨r1, r2, r3, r4, r5, r6⟩ := c_rd C
  obtain ⟨o0, o1, o8, o9, o10, o11, o12, o6, oe⟩ := c_so C
  obtain ⟨f3, f4, l1, l2, l3, l4, l5, l6, l7⟩ := c_ls C
  unfold fX1_sureFinds
  simp only [↓wp_bnd, ↓wp_ret, ↓wp_ite, ↓reduceIte, r4, o12, c_sure C]
theorem a_props (C : CI G cx tp bt s0 E1 B Z q x ea sz bs h t) {b : Nat × Nat} {Q : Int32 → sd_H → Nat × Nat → Prop} : wp (fX1_props G cx) h b Q = Q (bitc (t.1 4)) h b := by
  obtain ⟨r1, r2, r3, r4, r5, r6⟩ := c_rd C
  obtain ⟨o0, o1, o8, o9, o10, o11, o12, o6, oe⟩ := c_so C
  obtain ⟨f3, f4, l1, l2, l3, l4, l5, l6, l7⟩ := c_ls C
  unfold fX1_props
  simp only [↓wp_bnd, ↓wp_ret, ↓wp_ite, ↓reduceIte, r4, o12, c_props C]
theorem a_heightOf (C : CI G cx tp bt s0 E1 B Z q x ea sz bs h t) (a : Int32) : CO G cx tp bt s0 E1 B Z q x ea sz bs (fX1_heightOf G cx a) h t (fun h' r => AN h' r (ixA a (q 20) fun s => .inl (n3 (t.2.1 s)))) := by
  intro b Q b1 b2 kk
  obtain ⟨hP, hT, -, -⟩ := C_P C
  have q20 := hP.1.2
  have q21 := hP.2.1.2
  have q22 := hP.2.2.1
  have q26 := hP.2.2.2.1
  obtain ⟨r1, r2, r3, r4, r5, r6⟩ := c_rd C
  obtain ⟨o0, o1, o8, o9, o10, o11, o12, o6, oe⟩ := c_so C
  obtain ⟨f3, f4, l1, l2, l3, l4, l5, l6, l7⟩ := c_ls C
  have x27 : ∀ f, f < q 26 → x 27 f = 0 ∨ x 27 f = 1 := fun f hf => (hP.2.2.2.2.2.1 f hf).1.elim Or.inr (fun h => Or.inl h.1)
  unfold fX1_heightOf fX1_seat
  rcases inR_cases a (n := q 20) (by omega) with ⟨s, hs, rfl⟩ | ⟨hb, hn⟩
  · simp only [ixA_ok hs (show q 20 ≤ 1000000 by omega)] at kk
    have hi : ∀ {h : sd_H} {b : Nat × Nat} {Q : Unit ⊕ Nat → sd_H → Nat × Nat → Prop}, wp (fX1_requireIndex G (n3 s) (n3 (q 20))) h b Q = Q (.inl ()) h b := r_idx hs (by omega)
    simp only [↓wp_bnd, ↓wp_ret, ↓wp_ite, ↓reduceIte, wp_bx, r1, r4, o1, o12, hi, c_height C hs]
    exact kk _ _ _ C fr.refl (Nat.le_add_right _ _) (Nat.le_add_right _ _) rfl
  · simp only [ixA_bad hn] at kk
    have hi : ∀ {h : sd_H} {Q : Unit ⊕ Nat → sd_H → Nat × Nat → Prop}, wp (fX1_requireIndex G a (n3 (q 20))) h b Q = Q (.inr h.1) (sd_pu h (.inr (50, []))) (b.1 - 1, b.2 - 6) := r_idb hb (by omega) (by omega)
    simp only [↓wp_bnd, ↓wp_ret, ↓wp_ite, ↓reduceIte, wp_bx, r1, r4, o1, o12, hi]
    exact kk _ _ _ (CI_pu C).1 (CI_pu C).2 (by simp only; omega) (by simp only; omega) (pu_at _ _)
theorem a_isPropped (C : CI G cx tp bt s0 E1 B Z q x ea sz bs h t) (a : Int32) : CO G cx tp bt s0 E1 B Z q x ea sz bs (fX1_isPropped G cx a) h t (fun h' r => AN h' r (ixA a (q 20) fun s => .inl (bI (isP t s)))) := by
  intro b Q b1 b2 kk
  obtain ⟨hP, hT, -, -⟩ := C_P C
  have q20 := hP.1.2
  have q21 := hP.2.1.2
  have q22 := hP.2.2.1
  have q26 := hP.2.2.2.1
  obtain ⟨r1, r2, r3, r4, r5, r6⟩ := c_rd C
  obtain ⟨o0, o1, o8, o9, o10, o11, o12, o6, oe⟩ := c_so C
  obtain ⟨f3, f4, l1, l2, l3, l4, l5, l6, l7⟩ := c_ls C
  have x27 : ∀ f, f < q 26 → x 27 f = 0 ∨ x 27 f = 1 := fun f hf => (hP.2.2.2.2.2.1 f hf).1.elim Or.inr (fun h => Or.inl h.1)
  unfold fX1_isPropped fX1_seat
  rcases inR_cases a (n := q 20) (by omega) with ⟨s, hs, rfl⟩ | ⟨hb, hn⟩
  · simp only [ixA_ok hs (show q 20 ≤ 1000000 by omega)] at kk
    have hi : ∀ {h : sd_H} {b : Nat × Nat} {Q : Unit ⊕ Nat → sd_H → Nat × Nat → Prop}, wp (fX1_requireIndex G (n3 s) (n3 (q 20))) h b Q = Q (.inl ()) h b := r_idx hs (by omega)
    simp only [↓wp_bnd, ↓wp_ret, ↓wp_ite, ↓reduceIte, wp_bx, r1, r4, o1, o12, hi, c_isP C, wp_retNX (nar_bI _)]
    exact kk _ _ _ C fr.refl (Nat.le_add_right _ _) (Nat.le_add_right _ _) rfl
  · simp only [ixA_bad hn] at kk
    have hi : ∀ {h : sd_H} {Q : Unit ⊕ Nat → sd_H → Nat × Nat → Prop}, wp (fX1_requireIndex G a (n3 (q 20))) h b Q = Q (.inr h.1) (sd_pu h (.inr (50, []))) (b.1 - 1, b.2 - 6) := r_idb hb (by omega) (by omega)
    simp only [↓wp_bnd, ↓wp_ret, ↓wp_ite, ↓reduceIte, wp_bx, r1, r4, o1, o12, hi]
    exact kk _ _ _ (CI_pu C).1 (CI_pu C).2 (by simp only; omega) (by simp only; omega) (pu_at _ _)
theorem a_topStratum (C : CI G cx tp bt s0 E1 B Z q x ea sz bs h t) (a : Int32) : CO G cx tp bt s0 E1 B Z q x ea sz bs (fX1_topStratum G cx a) h t (fun h' r => AN h' r (ixA a (q 20) fun s => stA (t.2.1 s ≠ 0) (.inl (n3 (topC t s % 10))))) := by
  intro b Q b1 b2 kk
  obtain ⟨hP, hT, -, -⟩ := C_P C
  have q20 := hP.1.2
  have q21 := hP.2.1.2
  have q22 := hP.2.2.1
  have q26 := hP.2.2.2.1
  obtain ⟨r1, r2, r3, r4, r5, r6⟩ := c_rd C
  obtain ⟨o0, o1, o8, o9, o10, o11, o12, o6, oe⟩ := c_so C
  obtain ⟨f3, f4, l1, l2, l3, l4, l5, l6, l7⟩ := c_ls C
  have x27 : ∀ f, f < q 26 → x 27 f = 0 ∨ x 27 f = 1 := fun f hf => (hP.2.2.2.2.2.1 f hf).1.elim Or.inr (fun h => Or.inl h.1)
  unfold fX1_topStratum fX1_stacked
  rcases inR_cases a (n := q 20) (by omega) with ⟨s, hs, rfl⟩ | ⟨hb, hn⟩
  · simp only [ixA_ok hs (show q 20 ≤ 1000000 by omega)] at kk
    have hi : ∀ {h : sd_H} {b : Nat × Nat} {Q : Unit ⊕ Nat → sd_H → Nat × Nat → Prop}, wp (fX1_requireIndex G (n3 s) (n3 (q 20))) h b Q = Q (.inl ()) h b := r_idx hs (by omega)
    have h10 := hT.2.2.1 s hs
    by_cases c : t.2.1 s = 0
    · have e : n3 (t.2.1 s) ≤ 0 := by rw [c]; decide
      simp only [stA, c, ne_eq, not_true_eq_false, ↓reduceIte] at kk
      simp only [↓wp_bnd, ↓wp_ret, ↓wp_ite, ↓reduceIte, wp_bx, r1, r4, o1, o12, hi, c_height C hs, e, r_st0 (b := b) (by omega) (by omega)]
      exact kk _ _ _ (CI_pu C).1 (CI_pu C).2 (by simp only; omega) (by simp only; omega) (pu_at _ _)
    · have e : ¬ n3 (t.2.1 s) ≤ 0 := by
        rw [show (0 : Int32) = n3 0 from rfl, n3_le (by omega) (by omega)]
        omega
      simp only [stA, c, ne_eq, not_false_eq_true, ↓reduceIte] at kk
      obtain ⟨a, t1, t2, t3, t4⟩ := c_top C hs (by omega)
      have t9 := hT.2.2.2.1 s (t.2.1 s - 1) hs (by omega)
      have tl : t.2.2.2.1 (topC t s) = 0 ∨ t.2.2.2.1 (topC t s) = 1 := hT.2.2.2.2.1 _ t9
      have ts : x 31 (topC t s) = 0 ∨ x 31 (topC t s) = 1 := (hP.2.2.2.2.2.2 _ t9).2
      simp only [↓wp_bnd, ↓wp_ret, ↓wp_ite, ↓reduceIte, wp_bx, r1, r4, o1, o12, hi, c_height C hs, e, r_st1, t1, t2]
      exact kk _ _ _ C fr.refl (Nat.le_add_right _ _) (Nat.le_add_right _ _) rfl
  · simp only [ixA_bad hn] at kk
    have hi : ∀ {h : sd_H} {Q : Unit ⊕ Nat → sd_H → Nat × Nat → Prop}, wp (fX1_requireIndex G a (n3 (q 20))) h b Q = Q (.inr h.1) (sd_pu h (.inr (50, []))) (b.1 - 1, b.2 - 6) := r_idb hb (by omega) (by omega)
    simp only [↓wp_bnd, ↓wp_ret, ↓wp_ite, ↓reduceIte, wp_bx, r1, r4, o1, o12, hi]
    exact kk _ _ _ (CI_pu C).1 (CI_pu C).2 (by simp only; omega) (by simp only; omega) (pu_at _ _)
theorem a_isTopLoose (C : CI G cx tp bt s0 E1 B Z q x ea sz bs h t) (a : Int32) : CO G cx tp bt s0 E1 B Z q x ea sz bs (fX1_isTopLoose G cx a) h t (fun h' r => AN h' r (ixA a (q 20) fun s => stA (t.2.1 s ≠ 0) (.inl (t.2.2.2.1 (topC t s))))) := by
  intro b Q b1 b2 kk
  obtain ⟨hP, hT, -, -⟩ := C_P C
  have q20 := hP.1.2
  have q21 := hP.2.1.2
  have q22 := hP.2.2.1
  have q26 := hP.2.2.2.1
  obtain ⟨r1, r2, r3, r4, r5, r6⟩ := c_rd C
  obtain ⟨o0, o1, o8, o9, o10, o11, o12, o6, oe⟩ := c_so C
  obtain ⟨f3, f4, l1, l2, l3, l4, l5, l6, l7⟩ := c_ls C
  have x27 : ∀ f, f < q 26 → x 27 f = 0 ∨ x 27 f = 1 := fun f hf => (hP.2.2.2.2.2.1 f hf).1.elim Or.inr (fun h => Or.inl h.1)
  unfold fX1_isTopLoose fX1_stacked
  rcases inR_cases a (n := q 20) (by omega) with ⟨s, hs, rfl⟩ | ⟨hb, hn⟩
  · simp only [ixA_ok hs (show q 20 ≤ 1000000 by omega)] at kk
    have hi : ∀ {h : sd_H} {b : Nat × Nat} {Q : Unit ⊕ Nat → sd_H → Nat × Nat → Prop}, wp (fX1_requireIndex G (n3 s) (n3 (q 20))) h b Q = Q (.inl ()) h b := r_idx hs (by omega)
    have h10 := hT.2.2.1 s hs
    by_cases c : t.2.1 s = 0
    · have e : n3 (t.2.1 s) ≤ 0 := by rw [c]; decide
      simp only [stA, c, ne_eq, not_true_eq_false, ↓reduceIte] at kk
      simp only [↓wp_bnd, ↓wp_ret, ↓wp_ite, ↓reduceIte, wp_bx, r1, r4, o1, o12, hi, c_height C hs, e, r_st0 (b := b) (by omega) (by omega)]
      exact kk _ _ _ (CI_pu C).1 (CI_pu C).2 (by simp only; omega) (by simp only; omega) (pu_at _ _)
    · have e : ¬ n3 (t.2.1 s) ≤ 0 := by
        rw [show (0 : Int32) = n3 0 from rfl, n3_le (by omega) (by omega)]
        omega
      simp only [stA, c, ne_eq, not_false_eq_true, ↓reduceIte] at kk
      obtain ⟨a, t1, t2, t3, t4⟩ := c_top C hs (by omega)
      have t9 := hT.2.2.2.1 s (t.2.1 s - 1) hs (by omega)
      have tl : t.2.2.2.1 (topC t s) = 0 ∨ t.2.2.2.1 (topC t s) = 1 := hT.2.2.2.2.1 _ t9
      have ts : x 31 (topC t s) = 0 ∨ x 31 (topC t s) = 1 := (hP.2.2.2.2.2.2 _ t9).2
      simp only [↓wp_bnd, ↓wp_ret, ↓wp_ite, ↓reduceIte, wp_bx, r1, r4, o1, o12, hi, c_height C hs, e, r_st1, t1, t4, wp_retNX (nar_01 tl)]
      exact kk _ _ _ C fr.refl (Nat.le_add_right _ _) (Nat.le_add_right _ _) rfl
  · simp only [ixA_bad hn] at kk
    have hi : ∀ {h : sd_H} {Q : Unit ⊕ Nat → sd_H → Nat × Nat → Prop}, wp (fX1_requireIndex G a (n3 (q 20))) h b Q = Q (.inr h.1) (sd_pu h (.inr (50, []))) (b.1 - 1, b.2 - 6) := r_idb hb (by omega) (by omega)
    simp only [↓wp_bnd, ↓wp_ret, ↓wp_ite, ↓reduceIte, wp_bx, r1, r4, o1, o12, hi]
    exact kk _ _ _ (CI_pu C).1 (CI_pu C).2 (by simp only; omega) (by simp only; omega) (pu_at _ _)
theorem a_hasTopSpring (C : CI G cx tp bt s0 E1 B Z q x ea sz bs h t) (a : Int32) : CO G cx tp bt s0 E1 B Z q x ea sz bs (fX1_hasTopSpring G cx a) h t (fun h' r => AN h' r (ixA a (q 20) fun s => stA (t.2.1 s ≠ 0) (.inl (x 31 (topC t s))))) := by
  intro b Q b1 b2 kk
  obtain ⟨hP, hT, -, -⟩ := C_P C
  have q20 := hP.1.2
  have q21 := hP.2.1.2
  have q22 := hP.2.2.1
  have q26 := hP.2.2.2.1
  obtain ⟨r1, r2, r3, r4, r5, r6⟩ := c_rd C
  obtain ⟨o0, o1, o8, o9, o10, o11, o12, o6, oe⟩ := c_so C
  obtain ⟨f3, f4, l1, l2, l3, l4, l5, l6, l7⟩ := c_ls C
  have x27 : ∀ f, f < q 26 → x 27 f = 0 ∨ x 27 f = 1 := fun f hf => (hP.2.2.2.2.2.1 f hf).1.elim Or.inr (fun h => Or.inl h.1)
  unfold fX1_hasTopSpring fX1_stacked
  rcases inR_cases a (n := q 20) (by omega) with ⟨s, hs, rfl⟩ | ⟨hb, hn⟩
  · simp only [ixA_ok hs (show q 20 ≤ 1000000 by omega)] at kk
    have hi : ∀ {h : sd_H} {b : Nat × Nat} {Q : Unit ⊕ Nat → sd_H → Nat × Nat → Prop}, wp (fX1_requireIndex G (n3 s) (n3 (q 20))) h b Q = Q (.inl ()) h b := r_idx hs (by omega)
    have h10 := hT.2.2.1 s hs
    by_cases c : t.2.1 s = 0
    · have e : n3 (t.2.1 s) ≤ 0 := by rw [c]; decide
      simp only [stA, c, ne_eq, not_true_eq_false, ↓reduceIte] at kk
      simp only [↓wp_bnd, ↓wp_ret, ↓wp_ite, ↓reduceIte, wp_bx, r1, r4, o1, o12, hi, c_height C hs, e, r_st0 (b := b) (by omega) (by omega)]
      exact kk _ _ _ (CI_pu C).1 (CI_pu C).2 (by simp only; omega) (by simp only; omega) (pu_at _ _)
    · have e : ¬ n3 (t.2.1 s) ≤ 0 := by
        rw [show (0 : Int32) = n3 0 from rfl, n3_le (by omega) (by omega)]
        omega
      simp only [stA, c, ne_eq, not_false_eq_true, ↓reduceIte] at kk
      obtain ⟨a, t1, t2, t3, t4⟩ := c_top C hs (by omega)
      have t9 := hT.2.2.2.1 s (t.2.1 s - 1) hs (by omega)
      have tl : t.2.2.2.1 (topC t s) = 0 ∨ t.2.2.2.1 (topC t s) = 1 := hT.2.2.2.2.1 _ t9
      have ts : x 31 (topC t s) = 0 ∨ x 31 (topC t s) = 1 := (hP.2.2.2.2.2.2 _ t9).2
      simp only [↓wp_bnd, ↓wp_ret, ↓wp_ite, ↓reduceIte, wp_bx, r1, r4, o1, o12, hi, c_height C hs, e, r_st1, t1, t3, wp_retNX (nar_01 ts)]
      exact kk _ _ _ C fr.refl (Nat.le_add_right _ _) (Nat.le_add_right _ _) rfl
  · simp only [ixA_bad hn] at kk
    have hi : ∀ {h : sd_H} {Q : Unit ⊕ Nat → sd_H → Nat × Nat → Prop}, wp (fX1_requireIndex G a (n3 (q 20))) h b Q = Q (.inr h.1) (sd_pu h (.inr (50, []))) (b.1 - 1, b.2 - 6) := r_idb hb (by omega) (by omega)
    simp only [↓wp_bnd, ↓wp_ret, ↓wp_ite, ↓reduceIte, wp_bx, r1, r4, o1, o12, hi]
    exact kk _ _ _ (CI_pu C).1 (CI_pu C).2 (by simp only; omega) (by simp only; omega) (pu_at _ _)
theorem a_findsLeft (C : CI G cx tp bt s0 E1 B Z q x ea sz bs h t) (a : Int32) : CO G cx tp bt s0 E1 B Z q x ea sz bs (fX1_findsLeft G cx a) h t (fun h' r => AN h' r (ixA a (q 20) fun s => .inl (cnt (lftB x t s) (t.2.1 s)))) := by
  intro b Q b1 b2 kk
  obtain ⟨hP, hT, -, -⟩ := C_P C
  have q20 := hP.1.2
  have q21 := hP.2.1.2
  have q22 := hP.2.2.1
  have q26 := hP.2.2.2.1
  obtain ⟨r1, r2, r3, r4, r5, r6⟩ := c_rd C
  obtain ⟨o0, o1, o8, o9, o10, o11, o12, o6, oe⟩ := c_so C
  obtain ⟨f3, f4, l1, l2, l3, l4, l5, l6, l7⟩ := c_ls C
  have x27 : ∀ f, f < q 26 → x 27 f = 0 ∨ x 27 f = 1 := fun f hf => (hP.2.2.2.2.2.1 f hf).1.elim Or.inr (fun h => Or.inl h.1)
  unfold fX1_findsLeft fX1_seat
  rcases inR_cases a (n := q 20) (by omega) with ⟨s, hs, rfl⟩ | ⟨hb, hn⟩
  · simp only [ixA_ok hs (show q 20 ≤ 1000000 by omega)] at kk
    have hi : ∀ {h : sd_H} {b : Nat × Nat} {Q : Unit ⊕ Nat → sd_H → Nat × Nat → Prop}, wp (fX1_requireIndex G (n3 s) (n3 (q 20))) h b Q = Q (.inl ()) h b := r_idx hs (by omega)
    simp only [↓wp_bnd, ↓wp_bx, r1, r4, o1, o12, hi, ↓wp_ret]
    exact c_left C hs (by omega) (by omega) (fun h' C' f' => kk _ _ _ C' f' (by simp only; omega) (by simp only; omega) rfl)
  · simp only [ixA_bad hn] at kk
    have hi : ∀ {h : sd_H} {Q : Unit ⊕ Nat → sd_H → Nat × Nat → Prop}, wp (fX1_requireIndex G a (n3 (q 20))) h b Q = Q (.inr h.1) (sd_pu h (.inr (50, []))) (b.1 - 1, b.2 - 6) := r_idb hb (by omega) (by omega)
    simp only [↓wp_bnd, ↓wp_ret, ↓wp_ite, ↓reduceIte, wp_bx, r1, r4, o1, o12, hi]
    exact kk _ _ _ (CI_pu C).1 (CI_pu C).2 (by simp only; omega) (by simp only; omega) (pu_at _ _)
theorem a_isCoin (C : CI G cx tp bt s0 E1 B Z q x ea sz bs h t) (a : Int32) : CO G cx tp bt s0 E1 B Z q x ea sz bs (fX1_isCoin G cx a) h t (fun h' r => AN h' r (ixA a (q 26) fun s => .inl (x 27 s))) := by
  intro b Q b1 b2 kk
  obtain ⟨hP, hT, -, -⟩ := C_P C
  have q20 := hP.1.2
  have q21 := hP.2.1.2
  have q22 := hP.2.2.1
  have q26 := hP.2.2.2.1
  obtain ⟨r1, r2, r3, r4, r5, r6⟩ := c_rd C
  obtain ⟨o0, o1, o8, o9, o10, o11, o12, o6, oe⟩ := c_so C
  obtain ⟨f3, f4, l1, l2, l3, l4, l5, l6, l7⟩ := c_ls C
  have x27 : ∀ f, f < q 26 → x 27 f = 0 ∨ x 27 f = 1 := fun f hf => (hP.2.2.2.2.2.1 f hf).1.elim Or.inr (fun h => Or.inl h.1)
  unfold fX1_isCoin fX1_find fX1_at
  rcases inR_cases a (n := q 26) (by omega) with ⟨s, hs, rfl⟩ | ⟨hb, hn⟩
  · simp only [ixA_ok hs (show q 26 ≤ 1000000 by omega)] at kk
    have hi : ∀ {h : sd_H} {b : Nat × Nat} {Q : Unit ⊕ Nat → sd_H → Nat × Nat → Prop}, wp (fX1_requireIndex G (n3 s) (n3 (q 26))) h b Q = Q (.inl ()) h b := r_idx hs (by omega)
    obtain ⟨a, g1, g2, g3, g4, g5⟩ := l7 s hs
    simp only [↓wp_bnd, ↓wp_ret, ↓wp_ite, ↓reduceIte, wp_bx, r1, r4, l4, l5, l6, hi, g1, g2, g3, wp_retNX (nar_01 (x27 s hs))]
    exact kk _ _ _ C fr.refl (Nat.le_add_right _ _) (Nat.le_add_right _ _) rfl
  · simp only [ixA_bad hn] at kk
    have hi : ∀ {h : sd_H} {Q : Unit ⊕ Nat → sd_H → Nat × Nat → Prop}, wp (fX1_requireIndex G a (n3 (q 26))) h b Q = Q (.inr h.1) (sd_pu h (.inr (50, []))) (b.1 - 1, b.2 - 6) := r_idb hb (by omega) (by omega)
    simp only [↓wp_bnd, ↓wp_ret, ↓wp_ite, ↓reduceIte, wp_bx, r1, r4, l4, l5, l6, hi]
    exact kk _ _ _ (CI_pu C).1 (CI_pu C).2 (by simp only; omega) (by simp only; omega) (pu_at _ _)
theorem a_stratumOf (C : CI G cx tp bt s0 E1 B Z q x ea sz bs h t) (a : Int32) : CO G cx tp bt s0 E1 B Z q x ea sz bs (fX1_stratumOf G cx a) h t (fun h' r => AN h' r (ixA a (q 26) fun s => .inl (strm x s))) := by
  intro b Q b1 b2 kk
  obtain ⟨hP, hT, -, -⟩ := C_P C
  have q20 := hP.1.2
  have q21 := hP.2.1.2
  have q22 := hP.2.2.1
  have q26 := hP.2.2.2.1
  obtain ⟨r1, r2, r3, r4, r5, r6⟩ := c_rd C
  obtain ⟨o0, o1, o8, o9, o10, o11, o12, o6, oe⟩ := c_so C
  obtain ⟨f3, f4, l1, l2, l3, l4, l5, l6, l7⟩ := c_ls C
  have x27 : ∀ f, f < q 26 → x 27 f = 0 ∨ x 27 f = 1 := fun f hf => (hP.2.2.2.2.2.1 f hf).1.elim Or.inr (fun h => Or.inl h.1)
  unfold fX1_stratumOf fX1_find fX1_at
  rcases inR_cases a (n := q 26) (by omega) with ⟨s, hs, rfl⟩ | ⟨hb, hn⟩
  · simp only [ixA_ok hs (show q 26 ≤ 1000000 by omega)] at kk
    have hi : ∀ {h : sd_H} {b : Nat × Nat} {Q : Unit ⊕ Nat → sd_H → Nat × Nat → Prop}, wp (fX1_requireIndex G (n3 s) (n3 (q 26))) h b Q = Q (.inl ()) h b := r_idx hs (by omega)
    obtain ⟨a, g1, g2, g3, g4, g5⟩ := l7 s hs
    simp only [↓wp_bnd, ↓wp_ret, ↓wp_ite, ↓reduceIte, wp_bx, r1, r4, l4, l5, l6, hi, g1, g2, g5]
    exact kk _ _ _ C fr.refl (Nat.le_add_right _ _) (Nat.le_add_right _ _) rfl
  · simp only [ixA_bad hn] at kk
    have hi : ∀ {h : sd_H} {Q : Unit ⊕ Nat → sd_H → Nat × Nat → Prop}, wp (fX1_requireIndex G a (n3 (q 26))) h b Q = Q (.inr h.1) (sd_pu h (.inr (50, []))) (b.1 - 1, b.2 - 6) := r_idb hb (by omega) (by omega)
    simp only [↓wp_bnd, ↓wp_ret, ↓wp_ite, ↓reduceIte, wp_bx, r1, r4, l4, l5, l6, hi]
    exact kk _ _ _ (CI_pu C).1 (CI_pu C).2 (by simp only; omega) (by simp only; omega) (pu_at _ _)
theorem a_yearOf (C : CI G cx tp bt s0 E1 B Z q x ea sz bs h t) (a : Int32) : CO G cx tp bt s0 E1 B Z q x ea sz bs (fX1_yearOf G cx a) h t (fun h' r => AN h' r (ixA a (q 26) fun s => stA (x 27 s ≠ 0) (.inl (x 29 s)))) := by
  intro b Q b1 b2 kk
  obtain ⟨hP, hT, -, -⟩ := C_P C
  have q20 := hP.1.2
  have q21 := hP.2.1.2
  have q22 := hP.2.2.1
  have q26 := hP.2.2.2.1
  obtain ⟨r1, r2, r3, r4, r5, r6⟩ := c_rd C
  obtain ⟨o0, o1, o8, o9, o10, o11, o12, o6, oe⟩ := c_so C
  obtain ⟨f3, f4, l1, l2, l3, l4, l5, l6, l7⟩ := c_ls C
  have x27 : ∀ f, f < q 26 → x 27 f = 0 ∨ x 27 f = 1 := fun f hf => (hP.2.2.2.2.2.1 f hf).1.elim Or.inr (fun h => Or.inl h.1)
  unfold fX1_yearOf  fX1_find fX1_at
  rcases inR_cases a (n := q 26) (by omega) with ⟨s, hs, rfl⟩ | ⟨hb, hn⟩
  · simp only [ixA_ok hs (show q 26 ≤ 1000000 by omega)] at kk
    have hi : ∀ {h : sd_H} {b : Nat × Nat} {Q : Unit ⊕ Nat → sd_H → Nat × Nat → Prop}, wp (fX1_requireIndex G (n3 s) (n3 (q 26))) h b Q = Q (.inl ()) h b := r_idx hs (by omega)
    obtain ⟨a, g1, g2, g3, g4, g5⟩ := l7 s hs
    have i0 : (1 : Int32) ≠ 0 := by decide
    rcases x27 s hs with c | c
    · rw [c] at g3
      simp only [c, stA, ne_eq, not_true_eq_false, not_false_eq_true, i0, ↓reduceIte] at kk
      simp only [↓wp_bnd, ↓wp_ret, ↓wp_ite, ↓reduceIte, wp_bx, r1, r4, l4, l5, l6, hi, g1, g2, g3, g4, r_st1, r_st0 (b := b) (by omega) (by omega)]
      exact kk _ _ _ (CI_pu C).1 (CI_pu C).2 (by simp only; omega) (by simp only; omega) (pu_at _ _)
    · rw [c] at g3
      simp only [c, stA, ne_eq, not_true_eq_false, not_false_eq_true, i0, ↓reduceIte] at kk
      simp only [↓wp_bnd, ↓wp_ret, ↓wp_ite, ↓reduceIte, wp_bx, r1, r4, l4, l5, l6, hi, g1, g2, g3, g4, i0, r_st1, r_st0 (b := b) (by omega) (by omega)]
      exact kk _ _ _ C fr.refl (Nat.le_add_right _ _) (Nat.le_add_right _ _) rfl
  · simp only [ixA_bad hn] at kk
    have hi : ∀ {h : sd_H} {Q : Unit ⊕ Nat → sd_H → Nat × Nat → Prop}, wp (fX1_requireIndex G a (n3 (q 26))) h b Q = Q (.inr h.1) (sd_pu h (.inr (50, []))) (b.1 - 1, b.2 - 6) := r_idb hb (by omega) (by omega)
    simp only [↓wp_bnd, ↓wp_ret, ↓wp_ite, ↓reduceIte, wp_bx, r1, r4, l4, l5, l6, hi]
    exact kk _ _ _ (CI_pu C).1 (CI_pu C).2 (by simp only; omega) (by simp only; omega) (pu_at _ _)
theorem a_empireOf (C : CI G cx tp bt s0 E1 B Z q x ea sz bs h t) (a : Int32) : CO G cx tp bt s0 E1 B Z q x ea sz bs (fX1_empireOf G cx a) h t (fun h' r => AN h' r (ixA a (q 26) fun s => stA (x 27 s = 0) (.inl (x 29 s)))) := by
  intro b Q b1 b2 kk
  obtain ⟨hP, hT, -, -⟩ := C_P C
  have q20 := hP.1.2
  have q21 := hP.2.1.2
  have q22 := hP.2.2.1
  have q26 := hP.2.2.2.1
  obtain ⟨r1, r2, r3, r4, r5, r6⟩ := c_rd C
  obtain ⟨o0, o1, o8, o9, o10, o11, o12, o6, oe⟩ := c_so C
  obtain ⟨f3, f4, l1, l2, l3, l4, l5, l6, l7⟩ := c_ls C
  have x27 : ∀ f, f < q 26 → x 27 f = 0 ∨ x 27 f = 1 := fun f hf => (hP.2.2.2.2.2.1 f hf).1.elim Or.inr (fun h => Or.inl h.1)
  unfold fX1_empireOf fX1_empireOf_b16 fX1_find fX1_at
  rcases inR_cases a (n := q 26) (by omega) with ⟨s, hs, rfl⟩ | ⟨hb, hn⟩
  · simp only [ixA_ok hs (show q 26 ≤ 1000000 by omega)] at kk
    have hi : ∀ {h : sd_H} {b : Nat × Nat} {Q : Unit ⊕ Nat → sd_H → Nat × Nat → Prop}, wp (fX1_requireIndex G (n3 s) (n3 (q 26))) h b Q = Q (.inl ()) h b := r_idx hs (by omega)
    obtain ⟨a, g1, g2, g3, g4, g5⟩ := l7 s hs
    have i0 : (1 : Int32) ≠ 0 := by decide
    rcases x27 s hs with c | c
    · rw [c] at g3
      simp only [c, stA, ne_eq, not_true_eq_false, not_false_eq_true, i0, ↓reduceIte] at kk
      simp only [↓wp_bnd, ↓wp_ret, ↓wp_ite, ↓reduceIte, wp_bx, r1, r4, l4, l5, l6, hi, g1, g2, g3, g4, r_st1, r_st0 (b := b) (by omega) (by omega)]
      exact kk _ _ _ C fr.refl (Nat.le_add_right _ _) (Nat.le_add_right _ _) rfl
    · rw [c] at g3
      simp only [c, stA, ne_eq, not_true_eq_false, not_false_eq_true, i0, ↓reduceIte] at kk
      simp only [↓wp_bnd, ↓wp_ret, ↓wp_ite, ↓reduceIte, wp_bx, r1, r4, l4, l5, l6, hi, g1, g2, g3, g4, i0, r_st1, r_st0 (b := b) (by omega) (by omega)]
      exact kk _ _ _ (CI_pu C).1 (CI_pu C).2 (by simp only; omega) (by simp only; omega) (pu_at _ _)
  · simp only [ixA_bad hn] at kk
    have hi : ∀ {h : sd_H} {Q : Unit ⊕ Nat → sd_H → Nat × Nat → Prop}, wp (fX1_requireIndex G a (n3 (q 26))) h b Q = Q (.inr h.1) (sd_pu h (.inr (50, []))) (b.1 - 1, b.2 - 6) := r_idb hb (by omega) (by omega)
    simp only [↓wp_bnd, ↓wp_ret, ↓wp_ite, ↓reduceIte, wp_bx, r1, r4, l4, l5, l6, hi]
    exact kk _ _ _ (CI_pu C).1 (CI_pu C).2 (by simp only; omega) (by simp only; omega) (pu_at _ _)
theorem a_isFound (C : CI G cx tp bt s0 E1 B Z q x ea sz bs h t) (a : Int32) : CO G cx tp bt s0 E1 B Z q x ea sz bs (fX1_isFound G cx a) h t (fun h' r => AN h' r (ixA a (q 26) fun s => .inl (if t.2.2.2.2 s = 0 then 0 else 1))) := by
  intro b Q b1 b2 kk
  obtain ⟨hP, hT, -, -⟩ := C_P C
  have q20 := hP.1.2
  have q21 := hP.2.1.2
  have q22 := hP.2.2.1
  have q26 := hP.2.2.2.1
  obtain ⟨r1, r2, r3, r4, r5, r6⟩ := c_rd C
  obtain ⟨o0, o1, o8, o9, o10, o11, o12, o6, oe⟩ := c_so C
  obtain ⟨f3, f4, l1, l2, l3, l4, l5, l6, l7⟩ := c_ls C
  have x27 : ∀ f, f < q 26 → x 27 f = 0 ∨ x 27 f = 1 := fun f hf => (hP.2.2.2.2.2.1 f hf).1.elim Or.inr (fun h => Or.inl h.1)
  unfold fX1_isFound 
  rcases inR_cases a (n := q 26) (by omega) with ⟨s, hs, rfl⟩ | ⟨hb, hn⟩
  · simp only [ixA_ok hs (show q 26 ≤ 1000000 by omega)] at kk
    have hi : ∀ {h : sd_H} {b : Nat × Nat} {Q : Unit ⊕ Nat → sd_H → Nat × Nat → Prop}, wp (fX1_requireIndex G (n3 s) (n3 (q 26))) h b Q = Q (.inl ()) h b := r_idx hs (by omega)
    have fz := (hT.2.2.2.2.2.1 s).1
    have os := fun b Q => oe s b Q (by omega)
    by_cases c : t.2.2.2.2 s = 0
    · simp only [c, ↓reduceIte] at kk
      simp only [↓wp_bnd, ↓wp_ret, ↓wp_ite, ↓reduceIte, wp_bx, r1, r4, l4, l5, l6, o6, hi, os, cnv_0 fz, c]
      exact kk _ _ _ C fr.refl (Nat.le_add_right _ _) (Nat.le_add_right _ _) rfl
    · simp only [c, ↓reduceIte] at kk
      simp only [↓wp_bnd, ↓wp_ret, ↓wp_ite, ↓reduceIte, wp_bx, r1, r4, l4, l5, l6, o6, hi, os, cnv_0 fz, c]
      exact kk _ _ _ C fr.refl (Nat.le_add_right _ _) (Nat.le_add_right _ _) rfl
  · simp only [ixA_bad hn] at kk
    have hi : ∀ {h : sd_H} {Q : Unit ⊕ Nat → sd_H → Nat × Nat → Prop}, wp (fX1_requireIndex G a (n3 (q 26))) h b Q = Q (.inr h.1) (sd_pu h (.inr (50, []))) (b.1 - 1, b.2 - 6) := r_idb hb (by omega) (by omega)
    simp only [↓wp_bnd, ↓wp_ret, ↓wp_ite, ↓reduceIte, wp_bx, r1, r4, l4, l5, l6, o6, hi]
    exact kk _ _ _ (CI_pu C).1 (CI_pu C).2 (by simp only; omega) (by simp only; omega) (pu_at _ _)
theorem a_isSure (C : CI G cx tp bt s0 E1 B Z q x ea sz bs h t) (a : Int32) : CO G cx tp bt s0 E1 B Z q x ea sz bs (fX1_isSure G cx a) h t (fun h' r => AN h' r (ixA a (q 26) fun s => stA (t.2.2.2.2 s ≠ 0) (.inl (if t.2.2.2.2 s = 2 then 1 else 0)))) := by
  intro b Q b1 b2 kk
  obtain ⟨hP, hT, -, -⟩ := C_P C
  have q20 := hP.1.2
  have q21 := hP.2.1.2
  have q22 := hP.2.2.1
  have q26 := hP.2.2.2.1
  obtain ⟨r1, r2, r3, r4, r5, r6⟩ := c_rd C
  obtain ⟨o0, o1, o8, o9, o10, o11, o12, o6, oe⟩ := c_so C
  obtain ⟨f3, f4, l1, l2, l3, l4, l5, l6, l7⟩ := c_ls C
  have x27 : ∀ f, f < q 26 → x 27 f = 0 ∨ x 27 f = 1 := fun f hf => (hP.2.2.2.2.2.1 f hf).1.elim Or.inr (fun h => Or.inl h.1)
  unfold fX1_isSure fX1_isFound
  rcases inR_cases a (n := q 26) (by omega) with ⟨s, hs, rfl⟩ | ⟨hb, hn⟩
  · simp only [ixA_ok hs (show q 26 ≤ 1000000 by omega)] at kk
    have hi : ∀ {h : sd_H} {b : Nat × Nat} {Q : Unit ⊕ Nat → sd_H → Nat × Nat → Prop}, wp (fX1_requireIndex G (n3 s) (n3 (q 26))) h b Q = Q (.inl ()) h b := r_idx hs (by omega)
    have fz := (hT.2.2.2.2.2.1 s).1
    have os := fun b Q => oe s b Q (by omega)
    by_cases c : t.2.2.2.2 s = 0
    · simp only [stA, c, ne_eq, not_true_eq_false, ↓reduceIte] at kk
      simp only [↓wp_bnd, ↓wp_ret, ↓wp_ite, ↓reduceIte, wp_bx, r1, r4, l4, l5, l6, o6, hi, os, cnv_0 fz, c, r_st0 (b := b) (by omega) (by omega)]
      exact kk _ _ _ (CI_pu C).1 (CI_pu C).2 (by simp only; omega) (by simp only; omega) (pu_at _ _)
    · simp only [stA, c, ne_eq, not_false_eq_true, ↓reduceIte] at kk
      by_cases c2 : t.2.2.2.2 s = 2
      · simp only [c2, ↓reduceIte] at kk
        simp only [↓wp_bnd, ↓wp_ret, ↓wp_ite, ↓reduceIte, wp_bx, r1, r4, l4, l5, l6, o6, hi, os, cnv_0 fz, c, r_st1, cnv_is1 fz, c2]
        exact kk _ _ _ C fr.refl (Nat.le_add_right _ _) (Nat.le_add_right _ _) rfl
      · simp only [c2, ↓reduceIte] at kk
        simp only [↓wp_bnd, ↓wp_ret, ↓wp_ite, ↓reduceIte, wp_bx, r1, r4, l4, l5, l6, o6, hi, os, cnv_0 fz, c, r_st1, cnv_is1 fz, c2]
        exact kk _ _ _ C fr.refl (Nat.le_add_right _ _) (Nat.le_add_right _ _) rfl
  · simp only [ixA_bad hn] at kk
    have hi : ∀ {h : sd_H} {Q : Unit ⊕ Nat → sd_H → Nat × Nat → Prop}, wp (fX1_requireIndex G a (n3 (q 26))) h b Q = Q (.inr h.1) (sd_pu h (.inr (50, []))) (b.1 - 1, b.2 - 6) := r_idb hb (by omega) (by omega)
    simp only [↓wp_bnd, ↓wp_ret, ↓wp_ite, ↓reduceIte, wp_bx, r1, r4, l4, l5, l6, o6, hi]
    exact kk _ _ _ (CI_pu C).1 (CI_pu C).2 (by simp only; omega) (by simp only; omega) (pu_at _ _)
theorem a_buriedUnder (C : CI G cx tp bt s0 E1 B Z q x ea sz bs h t) (a : Int32) : CO G cx tp bt s0 E1 B Z q x ea sz bs (fX1_buriedUnder G cx a) h t (fun h' r => AN h' r (ixA a (q 26) fun s => stA (t.2.2.2.2 s = 0) (.inl (bur (q 20) x t (x 28 s))))) := by
  intro b Q b1 b2 kk
  obtain ⟨hP, hT, -, -⟩ := C_P C
  have q20 := hP.1.2
  have q21 := hP.2.1.2
  have q22 := hP.2.2.1
  have q26 := hP.2.2.2.1
  obtain ⟨r1, r2, r3, r4, r5, r6⟩ := c_rd C
  obtain ⟨o0, o1, o8, o9, o10, o11, o12, o6, oe⟩ := c_so C
  obtain ⟨f3, f4, l1, l2, l3, l4, l5, l6, l7⟩ := c_ls C
  have x27 : ∀ f, f < q 26 → x 27 f = 0 ∨ x 27 f = 1 := fun f hf => (hP.2.2.2.2.2.1 f hf).1.elim Or.inr (fun h => Or.inl h.1)
  unfold fX1_buriedUnder fX1_isFound fX1_buriedUnder_b13
  rcases inR_cases a (n := q 26) (by omega) with ⟨s, hs, rfl⟩ | ⟨hb, hn⟩
  · simp only [ixA_ok hs (show q 26 ≤ 1000000 by omega)] at kk
    have hi : ∀ {h : sd_H} {b : Nat × Nat} {Q : Unit ⊕ Nat → sd_H → Nat × Nat → Prop}, wp (fX1_requireIndex G (n3 s) (n3 (q 26))) h b Q = Q (.inl ()) h b := r_idx hs (by omega)
    have fz := (hT.2.2.2.2.2.1 s).1
    have os := fun b Q => oe s b Q (by omega)
    have i0 : (1 : Int32) ≠ 0 := by decide
    by_cases c : t.2.2.2.2 s = 0
    · simp only [stA, c, ↓reduceIte] at kk
      simp only [↓wp_bnd, ↓wp_ret, ↓wp_ite, ↓reduceIte, ↓wp_bx, r1, r4, l4, l5, l6, o6, hi, os, cnv_0 fz, c, r_st1, o12]
      exact c_above C hs (by omega) (by omega) (fun h' C' f' => kk _ _ _ C' f' (by simp only; omega) (by simp only; omega) rfl)
    · simp only [stA, c, ↓reduceIte] at kk
      simp only [↓wp_bnd, ↓wp_ret, ↓wp_ite, ↓reduceIte, wp_bx, r1, r4, l4, l5, l6, o6, hi, os, cnv_0 fz, c, i0, r_st0 (b := b) (by omega) (by omega)]
      exact kk _ _ _ (CI_pu C).1 (CI_pu C).2 (by simp only; omega) (by simp only; omega) (pu_at _ _)
  · simp only [ixA_bad hn] at kk
    have hi : ∀ {h : sd_H} {Q : Unit ⊕ Nat → sd_H → Nat × Nat → Prop}, wp (fX1_requireIndex G a (n3 (q 26))) h b Q = Q (.inr h.1) (sd_pu h (.inr (50, []))) (b.1 - 1, b.2 - 6) := r_idb hb (by omega) (by omega)
    simp only [↓wp_bnd, ↓wp_ret, ↓wp_ite, ↓reduceIte, wp_bx, r1, r4, l4, l5, l6, o6, hi]
    exact kk _ _ _ (CI_pu C).1 (CI_pu C).2 (by simp only; omega) (by simp only; omega) (pu_at _ _)
theorem a_notBefore (C : CI G cx tp bt s0 E1 B Z q x ea sz bs h t) (a : Int32) : CO G cx tp bt s0 E1 B Z q x ea sz bs (fX1_notBefore G cx a) h t (fun h' r => AN h' r (ixA a (q 21) fun s => .inl (nbf (q 26) x t (n3 s)))) := by
  intro b Q b1 b2 kk
  obtain ⟨hP, hT, -, -⟩ := C_P C
  have q20 := hP.1.2
  have q21 := hP.2.1.2
  have q22 := hP.2.2.1
  have q26 := hP.2.2.2.1
  obtain ⟨r1, r2, r3, r4, r5, r6⟩ := c_rd C
  obtain ⟨o0, o1, o8, o9, o10, o11, o12, o6, oe⟩ := c_so C
  obtain ⟨f3, f4, l1, l2, l3, l4, l5, l6, l7⟩ := c_ls C
  have x27 : ∀ f, f < q 26 → x 27 f = 0 ∨ x 27 f = 1 := fun f hf => (hP.2.2.2.2.2.1 f hf).1.elim Or.inr (fun h => Or.inl h.1)
  unfold fX1_notBefore fX1_stratum
  rcases inR_cases a (n := q 21) (by omega) with ⟨s, hs, rfl⟩ | ⟨hb, hn⟩
  · simp only [ixA_ok hs (show q 21 ≤ 1000000 by omega)] at kk
    have hi : ∀ {h : sd_H} {b : Nat × Nat} {Q : Unit ⊕ Nat → sd_H → Nat × Nat → Prop}, wp (fX1_requireIndex G (n3 s) (n3 (q 21))) h b Q = Q (.inl ()) h b := r_idx hs (by omega)
    simp only [↓wp_bnd, ↓wp_ret, ↓wp_ite, ↓reduceIte, wp_bx, r1, r4, o0, o12, hi, c_nbf C]
    exact kk _ _ _ C fr.refl (Nat.le_add_right _ _) (Nat.le_add_right _ _) rfl
  · simp only [ixA_bad hn] at kk
    have hi : ∀ {h : sd_H} {Q : Unit ⊕ Nat → sd_H → Nat × Nat → Prop}, wp (fX1_requireIndex G a (n3 (q 21))) h b Q = Q (.inr h.1) (sd_pu h (.inr (50, []))) (b.1 - 1, b.2 - 6) := r_idb hb (by omega) (by omega)
    simp only [↓wp_bnd, ↓wp_ret, ↓wp_ite, ↓reduceIte, wp_bx, r1, r4, o0, o12, hi]
    exact kk _ _ _ (CI_pu C).1 (CI_pu C).2 (by simp only; omega) (by simp only; omega) (pu_at _ _)
theorem a_isMixed (C : CI G cx tp bt s0 E1 B Z q x ea sz bs h t) (a : Int32) : CO G cx tp bt s0 E1 B Z q x ea sz bs (fX1_isMixed G cx a) h t (fun h' r => AN h' r (ixA a (q 21) fun s => .inl (bI (mixB (q 22) (q 26) x t (n3 s))))) := by
  intro b Q b1 b2 kk
  obtain ⟨hP, hT, -, -⟩ := C_P C
  have q20 := hP.1.2
  have q21 := hP.2.1.2
  have q22 := hP.2.2.1
  have q26 := hP.2.2.2.1
  obtain ⟨r1, r2, r3, r4, r5, r6⟩ := c_rd C
  obtain ⟨o0, o1, o8, o9, o10, o11, o12, o6, oe⟩ := c_so C
  obtain ⟨f3, f4, l1, l2, l3, l4, l5, l6, l7⟩ := c_ls C
  have x27 : ∀ f, f < q 26 → x 27 f = 0 ∨ x 27 f = 1 := fun f hf => (hP.2.2.2.2.2.1 f hf).1.elim Or.inr (fun h => Or.inl h.1)
  unfold fX1_isMixed fX1_stratum
  rcases inR_cases a (n := q 21) (by omega) with ⟨s, hs, rfl⟩ | ⟨hb, hn⟩
  · simp only [ixA_ok hs (show q 21 ≤ 1000000 by omega)] at kk
    have hi : ∀ {h : sd_H} {b : Nat × Nat} {Q : Unit ⊕ Nat → sd_H → Nat × Nat → Prop}, wp (fX1_requireIndex G (n3 s) (n3 (q 21))) h b Q = Q (.inl ()) h b := r_idx hs (by omega)
    simp only [↓wp_bnd, ↓wp_ret, ↓wp_ite, ↓reduceIte, wp_bx, r1, r4, o0, o12, hi, c_mixed C, wp_retNX (nar_bI _)]
    exact kk _ _ _ C fr.refl (Nat.le_add_right _ _) (Nat.le_add_right _ _) rfl
  · simp only [ixA_bad hn] at kk
    have hi : ∀ {h : sd_H} {Q : Unit ⊕ Nat → sd_H → Nat × Nat → Prop}, wp (fX1_requireIndex G a (n3 (q 21))) h b Q = Q (.inr h.1) (sd_pu h (.inr (50, []))) (b.1 - 1, b.2 - 6) := r_idb hb (by omega) (by omega)
    simp only [↓wp_bnd, ↓wp_ret, ↓wp_ite, ↓reduceIte, wp_bx, r1, r4, o0, o12, hi]
    exact kk _ _ _ (CI_pu C).1 (CI_pu C).2 (by simp only; omega) (by simp only; omega) (pu_at _ _)
theorem a_isSeenIn (C : CI G cx tp bt s0 E1 B Z q x ea sz bs h t) (a c : Int32) : CO G cx tp bt s0 E1 B Z q x ea sz bs (fX1_isSeenIn G cx a c) h t (fun h' r => AN h' r (ixA a (q 21) fun s => ixA c (q 22) fun e => .inl (bI (seeS (q 26) x t (n3 s) (n3 e))))) := by
  intro b Q b1 b2 kk
  obtain ⟨hP, hT, -, -⟩ := C_P C
  have q20 := hP.1.2
  have q21 := hP.2.1.2
  have q22 := hP.2.2.1
  have q26 := hP.2.2.2.1
  obtain ⟨r1, r2, r3, r4, r5, r6⟩ := c_rd C
  obtain ⟨o0, o1, o8, o9, o10, o11, o12, o6, oe⟩ := c_so C
  obtain ⟨f3, f4, l1, l2, l3, l4, l5, l6, l7⟩ := c_ls C
  have x27 : ∀ f, f < q 26 → x 27 f = 0 ∨ x 27 f = 1 := fun f hf => (hP.2.2.2.2.2.1 f hf).1.elim Or.inr (fun h => Or.inl h.1)
  unfold fX1_isSeenIn
  rcases inR_cases a (n := q 21) (by omega) with ⟨s, hs, rfl⟩ | ⟨hb, hn⟩
  · simp only [ixA_ok hs (show q 21 ≤ 1000000 by omega)] at kk
    have hi : ∀ {h : sd_H} {b : Nat × Nat} {Q : Unit ⊕ Nat → sd_H → Nat × Nat → Prop}, wp (fX1_requireIndex G (n3 s) (n3 (q 21))) h b Q = Q (.inl ()) h b := r_idx hs (by omega)
    rcases inR_cases c (n := q 22) (by omega) with ⟨e, he, rfl⟩ | ⟨hb, hn⟩
    · simp only [ixA_ok he (show q 22 ≤ 1000000 by omega)] at kk
      have hj : ∀ {h : sd_H} {b : Nat × Nat} {Q : Unit ⊕ Nat → sd_H → Nat × Nat → Prop}, wp (fX1_requireIndex G (n3 e) (n3 (q 22))) h b Q = Q (.inl ()) h b := r_idx he (by omega)
      simp only [↓wp_bnd, ↓wp_ret, ↓wp_ite, ↓reduceIte, wp_bx, r1, r4, o0, o12, l1, l2, l3, hi, hj, c_seenIn C, wp_retNX (nar_bI _)]
      exact kk _ _ _ C fr.refl (Nat.le_add_right _ _) (Nat.le_add_right _ _) rfl
    · simp only [ixA_bad hn] at kk
      have hj : ∀ {h : sd_H} {Q : Unit ⊕ Nat → sd_H → Nat × Nat → Prop}, wp (fX1_requireIndex G c (n3 (q 22))) h b Q = Q (.inr h.1) (sd_pu h (.inr (50, []))) (b.1 - 1, b.2 - 6) := r_idb hb (by omega) (by omega)
      simp only [↓wp_bnd, ↓wp_ret, ↓wp_ite, ↓reduceIte, wp_bx, r1, r4, o0, o12, l1, l2, l3, hi, hj]
      exact kk _ _ _ (CI_pu C).1 (CI_pu C).2 (by simp only; omega) (by simp only; omega) (pu_at _ _)
  · simp only [ixA_bad hn] at kk
    have hi : ∀ {h : sd_H} {Q : Unit ⊕ Nat → sd_H → Nat × Nat → Prop}, wp (fX1_requireIndex G a (n3 (q 21))) h b Q = Q (.inr h.1) (sd_pu h (.inr (50, []))) (b.1 - 1, b.2 - 6) := r_idb hb (by omega) (by omega)
    simp only [↓wp_bnd, ↓wp_ret, ↓wp_ite, ↓reduceIte, wp_bx, r1, r4, o0, o12, hi]
    exact kk _ _ _ (CI_pu C).1 (CI_pu C).2 (by simp only; omega) (by simp only; omega) (pu_at _ _)
end CAP
