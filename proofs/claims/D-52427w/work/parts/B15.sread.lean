/-! THE PLAIN LAW: what the component answers of finds and strata -/
theorem cnv_eq0 {z : Int32} (h : z = 0 ∨ z = 1 ∨ z = 2) : (cnv z = 0) = (z < 1) := by
  rcases h with rfl | rfl | rfl <;> decide
theorem cnv_eq1 {z : Int32} (h : z = 0 ∨ z = 1 ∨ z = 2) : (cnv z = 1) = (z = 2) := by
  rcases h with rfl | rfl | rfl <;> decide
theorem lt2_eq {z : Int32} (h : z = 0 ∨ z = 1 ∨ z = 2) : (z < 2) = ¬ (z = 2) := by
  rcases h with rfl | rfl | rfl <;> decide
theorem le0_eq {z : Int32} (h : z = 0 ∨ z = 1 ∨ z = 2) : (z ≤ 0) = (z < 1) := by
  rcases h with rfl | rfl | rfl <;> decide
theorem eq0_eq {z : Int32} (h : z = 0 ∨ z = 1 ∨ z = 2) : (z = 0) = (z < 1) := by
  rcases h with rfl | rfl | rfl <;> decide
section SQ
variable {G : sd_G} {n : Nat} {ρ : Nat → Option Nat} {K : Nat → Option sd_E} {ad F : Nat → Nat} {q : Nat → Nat} {x : Nat → Nat → Int32} {mc : Nat → Int32} {em cs : Nat → Bool} {t : TT} {b : Nat × Nat}
/-- the list of finds: size, elements -/
theorem s_fin (A : sA G n ρ K ad F q x em cs t) : (∀ b (Q : Unit → sd_H → Nat × Nat → Prop), wp (sd_isC G 41 (F 4)) (hSo G n ρ K ad F q x mc em t) b Q = Q () (hSo G n ρ K ad F q x mc em t) b) ∧ (∀ b (Q : Int32 → sd_H → Nat × Nat → Prop), wp (fJ2_size G (F 4)) (hSo G n ρ K ad F q x mc em t) b Q = Q (n3 (q 26)) (hSo G n ρ K ad F q x mc em t) b) := by
  obtain ⟨m, r, c, f, h1, h2, h3, h4, h5⟩ := A.2.2.1.2.2.1
  exact ⟨fun _ _ => wp_isC (im_look h1), fun _ _ => j_size (im_look h1)⟩
theorem s_finat {i : Nat} (A : sA G n ρ K ad F q x em cs t) (hi : i < q 26) : ∃ a, (∀ b (Q : Nat → sd_H → Nat × Nat → Prop), wp (fJ2_get G (F 4) (n3 i)) (hSo G n ρ K ad F q x mc em t) b Q = Q a (hSo G n ρ K ad F q x mc em t) b) ∧ (∀ b (Q : Unit → sd_H → Nat × Nat → Prop), wp (sd_cast G [11] a) (hSo G n ρ K ad F q x mc em t) b Q = Q () (hSo G n ρ K ad F q x mc em t) b) ∧ (∀ b (Q : Int32 → sd_H → Nat × Nat → Prop), wp (sd_getI G 11 0 a) (hSo G n ρ K ad F q x mc em t) b Q = Q (x 27 i) (hSo G n ρ K ad F q x mc em t) b) ∧ (∀ b (Q : Int32 → sd_H → Nat × Nat → Prop), wp (sd_getI G 11 1 a) (hSo G n ρ K ad F q x mc em t) b Q = Q (x 29 i) (hSo G n ρ K ad F q x mc em t) b) ∧ (∀ b (Q : Int32 → sd_H → Nat × Nat → Prop), wp (sd_getI G 11 2 a) (hSo G n ρ K ad F q x mc em t) b Q = Q (strm x i) (hSo G n ρ K ad F q x mc em t) b) := by
  obtain ⟨m, r, c, f, h1, h2, h3, h4, h5⟩ := A.2.2.1.2.2.1
  obtain ⟨a, h6, h7⟩ := h5 i hi
  exact ⟨a, fun _ _ => j_get (im_look h1) (im_look h2) hi h3 (by omega) h6, fun _ _ => wp_cast (im_look h7) (by decide), fun _ _ => wp_getI (im_look h7) rfl, fun _ _ => wp_getI (im_look h7) rfl, fun _ _ => wp_getI (im_look h7) rfl⟩
theorem s_emp (A : sA G n ρ K ad F q x em cs t) : (∀ b (Q : Unit → sd_H → Nat × Nat → Prop), wp (sd_isC G 41 (F 3)) (hSo G n ρ K ad F q x mc em t) b Q = Q () (hSo G n ρ K ad F q x mc em t) b) ∧ (∀ b (Q : Int32 → sd_H → Nat × Nat → Prop), wp (fJ2_size G (F 3)) (hSo G n ρ K ad F q x mc em t) b Q = Q (n3 (q 22)) (hSo G n ρ K ad F q x mc em t) b) := by
  obtain ⟨m, r, c, f, h1, h2, h3, h4, h5⟩ := A.2.2.1.2.1
  exact ⟨fun _ _ => wp_isC (im_look h1), fun _ _ => j_size (im_look h1)⟩
theorem s_empat {i : Nat} (A : sA G n ρ K ad F q x em cs t) (hi : i < q 22) : ∃ a, (∀ b (Q : Nat → sd_H → Nat × Nat → Prop), wp (fJ2_get G (F 3) (n3 i)) (hSo G n ρ K ad F q x mc em t) b Q = Q a (hSo G n ρ K ad F q x mc em t) b) ∧ (∀ b (Q : Unit → sd_H → Nat × Nat → Prop), wp (sd_cast G [10] a) (hSo G n ρ K ad F q x mc em t) b Q = Q () (hSo G n ρ K ad F q x mc em t) b) ∧ (∀ b (Q : Int32 → sd_H → Nat × Nat → Prop), wp (sd_getI G 10 0 a) (hSo G n ρ K ad F q x mc em t) b Q = Q (x 24 i) (hSo G n ρ K ad F q x mc em t) b) ∧ (∀ b (Q : Int32 → sd_H → Nat × Nat → Prop), wp (sd_getI G 10 1 a) (hSo G n ρ K ad F q x mc em t) b Q = Q (x 25 i) (hSo G n ρ K ad F q x mc em t) b) := by
  obtain ⟨m, r, c, f, h1, h2, h3, h4, h5⟩ := A.2.2.1.2.1
  obtain ⟨a, h6, h7⟩ := h5 i hi
  exact ⟨a, fun _ _ => j_get (im_look h1) (im_look h2) hi h3 (by omega) h6, fun _ _ => wp_cast (im_look h7) (by decide), fun _ _ => wp_getI (im_look h7) rfl, fun _ _ => wp_getI (im_look h7) rfl⟩
theorem s_found {Q : Int32 → sd_H → Nat × Nat → Prop} (A : sA G n ρ K ad F q x em cs t) : wp (fX3_found G (ad 0)) (hSo G n ρ K ad F q x mc em t) b Q = Q (cnt (fndB t 1) (q 26)) (hSo G n ρ K ad F q x mc em t) b := by
  have hn := A.2.2.2.1.2.2.2.1
  unfold fX3_found
  refine Eq.trans (wp_lp (F := fun k s => fX3_found_b4 G k s.1 s.2.1 s.2.2) (q 26) (fun i (a : Int32) => (ad 0, a, n3 i)) (fun _ => hSo G n ρ K ad F q x mc em t) (fun _ _ => True) (fun i a => .inl (a + if fndB t 1 i then 1 else 0)) (fun a => a) (fun g => Q g (hSo G n ρ K ad F q x mc em t) b) ?_ ?_ sd_FU 0 0 (Nat.zero_le _) (by unfold sd_FU; omega) trivial) rfl
  · intro k a _
    unfold fX3_found_b4
    simp (disch := omega) only [↓wp_bnd, ↓wp_ret, ↓wp_ite, ↓reduceIte, s_rd A, s_fin A, n3_le, Nat.le_refl]
  · intro k i a hi _
    refine ⟨fun _ _ => trivial, ?_⟩
    have h1 : ¬ q 26 ≤ i := by omega
    have h2 := cnv_eq0 (A.2.2.2.2.2.2.2.2.2.1 i).1
    unfold fX3_found_b4 fndB
    simp (disch := omega) only [↓wp_bnd, ↓wp_ret, ↓wp_ite, ↓reduceIte, s_rd A, s_fin A, n3_le, h1, n3_addl, h2]
    by_cases c1 : t.2.2.2.2 i < 1 <;> simp [c1]
theorem s_sure {Q : Int32 → sd_H → Nat × Nat → Prop} (A : sA G n ρ K ad F q x em cs t) : wp (fX3_sure G (ad 0)) (hSo G n ρ K ad F q x mc em t) b Q = Q (cnt (fndB t 2) (q 26)) (hSo G n ρ K ad F q x mc em t) b := by
  have hn := A.2.2.2.1.2.2.2.1
  unfold fX3_sure
  refine Eq.trans (wp_lp (F := fun k s => fX3_sure_b4 G k s.1 s.2.1 s.2.2) (q 26) (fun i (a : Int32) => (ad 0, a, n3 i)) (fun _ => hSo G n ρ K ad F q x mc em t) (fun _ _ => True) (fun i a => .inl (a + if fndB t 2 i then 1 else 0)) (fun a => a) (fun g => Q g (hSo G n ρ K ad F q x mc em t) b) ?_ ?_ sd_FU 0 0 (Nat.zero_le _) (by unfold sd_FU; omega) trivial) rfl
  · intro k a _
    unfold fX3_sure_b4
    simp (disch := omega) only [↓wp_bnd, ↓wp_ret, ↓wp_ite, ↓reduceIte, s_rd A, s_fin A, n3_le, Nat.le_refl]
  · intro k i a hi _
    refine ⟨fun _ _ => trivial, ?_⟩
    have h1 : ¬ q 26 ≤ i := by omega
    have h2 := cnv_eq1 (A.2.2.2.2.2.2.2.2.2.1 i).1
    have h3 := lt2_eq (A.2.2.2.2.2.2.2.2.2.1 i).1
    unfold fX3_sure_b4 fndB
    simp (disch := omega) only [↓wp_bnd, ↓wp_ret, ↓wp_ite, ↓reduceIte, s_rd A, s_fin A, n3_le, h1, n3_addl, h2, h3]
    by_cases c1 : t.2.2.2.2 i = 2 <;> simp [c1]
theorem s_props {Q : Int32 → sd_H → Nat × Nat → Prop} (A : sA G n ρ K ad F q x em cs t) : wp (fX3_props G (ad 0)) (hSo G n ρ K ad F q x mc em t) b Q = Q (bitc (t.1 4)) (hSo G n ρ K ad F q x mc em t) b := by
  have q8 := A.2.2.2.1.1.2
  obtain ⟨p, p1, p2⟩ := A.2.2.2.2.2.2.2.2.2.2
  rw [p1, bitc_cnt (q 20) q8 p p2, ← p1]
  unfold fX3_props
  refine Eq.trans (wp_lp (F := fun k s => fX3_props_b4 G k s.1 s.2.1 s.2.2) (q 20) (fun i (a : Int32) => (ad 0, a, n3 i)) (fun _ => hSo G n ρ K ad F q x mc em t) (fun _ _ => True) (fun i a => .inl (a + if isP t i then 1 else 0)) (fun a => a) (fun g => Q g (hSo G n ρ K ad F q x mc em t) b) ?_ ?_ sd_FU 0 0 (Nat.zero_le _) (by unfold sd_FU; omega) trivial) rfl
  · intro k a _
    unfold fX3_props_b4
    simp (disch := omega) only [↓wp_bnd, ↓wp_ret, ↓wp_ite, ↓reduceIte, s_rd A, n3_le, Nat.le_refl]
  · intro k i a hi _
    refine ⟨fun _ _ => trivial, ?_⟩
    have h1 : ¬ q 20 ≤ i := by omega
    unfold fX3_props_b4
    simp (disch := omega) only [↓wp_bnd, ↓wp_ret, ↓wp_ite, ↓reduceIte, s_rd A, n3_le, h1, n3_addl, s_isP A, bI_0]
    cases isP t i <;> simp
theorem s_seenIn {k e : Int32} {Q : Int32 → sd_H → Nat × Nat → Prop} (A : sA G n ρ K ad F q x em cs t) : wp (fX3_isSeenIn G (ad 0) k e) (hSo G n ρ K ad F q x mc em t) b Q = Q (bI (seeS (q 26) x t k e)) (hSo G n ρ K ad F q x mc em t) b := by
  have hn := A.2.2.2.1.2.2.2.1
  unfold fX3_isSeenIn
  refine Eq.trans (wp_lp (F := fun k s => fX3_isSeenIn_b2 G k s.1 s.2.1 s.2.2.1 s.2.2.2) (q 26) (fun i (_ : Unit) => (ad 0, k, e, n3 i)) (fun _ => hSo G n ρ K ad F q x mc em t) (fun _ _ => True) (fun i _ => if seeB x t k e i then .inr true else .inl ()) (fun _ => false) (fun g => Q (bI g) (hSo G n ρ K ad F q x mc em t) b) ?_ ?_ sd_FU 0 () (Nat.zero_le _) (by unfold sd_FU; omega) trivial) rfl
  · intro k a _
    unfold fX3_isSeenIn_b2
    simp (disch := omega) only [↓wp_bnd, ↓wp_ret, ↓wp_ite, ↓reduceIte, s_rd A, s_fin A, n3_le, Nat.le_refl, bI_f]
  · intro kk i a hi _
    refine ⟨fun _ _ => trivial, ?_⟩
    have h1 : ¬ q 26 ≤ i := by omega
    have h2 := cnv_eq1 (A.2.2.2.2.2.2.2.2.2.1 i).1
    obtain ⟨a, g1, g2, g3, g4, g5⟩ := s_finat (mc := mc) A hi
    unfold fX3_isSeenIn_b2 seeB
    simp (disch := omega) only [↓wp_bnd, ↓wp_ret, ↓wp_ite, ↓reduceIte, s_rd A, s_fin A, n3_le, h1, n3_addl, g1, g2, g3, g4, g5, h2]
    by_cases c1 : t.2.2.2.2 i = 2
    · by_cases c2 : x 27 i = 0
      · by_cases c3 : x 29 i = e
        · by_cases c4 : strm x i = k
          · simp [c1, c2, c3, c4, bI]
          · simp [c1, c2, c3, c4]
        · simp [c1, c2, c3]
      · simp [c1, c2]
    · simp [c1]
theorem s_nbf {k : Int32} {Q : Int32 → sd_H → Nat × Nat → Prop} (A : sA G n ρ K ad F q x em cs t) : wp (fX3_notBefore G (ad 0) k) (hSo G n ρ K ad F q x mc em t) b Q = Q (nbf (q 26) x t k) (hSo G n ρ K ad F q x mc em t) b := by
  have hP := A.2.2.2.1
  have hn := hP.2.2.2.1
  have he := hP.2.2.1
  unfold fX3_notBefore
  refine Eq.trans (wp_lp (F := fun k s => fX3_notBefore_b4 G k s.1 s.2.1 s.2.2.1 s.2.2.2) (q 26) (fun i (a : Int32) => (ad 0, k, a, n3 i)) (fun _ => hSo G n ρ K ad F q x mc em t) (fun _ _ => True) (fun f a => .inl (if t.2.2.2.2 f = 2 ∧ ¬ k < strm x f then mxI a (if x 27 f = 0 then x 24 (x 29 f).toNatClampNeg else x 29 f) else a)) (fun a => a) (fun g => Q g (hSo G n ρ K ad F q x mc em t) b) ?_ ?_ sd_FU 0 (-1) (Nat.zero_le _) (by unfold sd_FU; omega) trivial) rfl
  · intro k a _
    unfold fX3_notBefore_b4
    simp (disch := omega) only [↓wp_bnd, ↓wp_ret, ↓wp_ite, ↓reduceIte, s_rd A, s_fin A, n3_le, Nat.le_refl]
  · intro kk i a hi _
    refine ⟨fun _ _ => trivial, ?_⟩
    have h1 : ¬ q 26 ≤ i := by omega
    have h2 := cnv_eq1 (A.2.2.2.2.2.2.2.2.2.1 i).1
    obtain ⟨a0, g1, g2, g3, g4, g5⟩ := s_finat (mc := mc) A hi
    unfold fX3_notBefore_b4 fJ4_max
    by_cases c1 : t.2.2.2.2 i = 2
    · by_cases c2 : k < strm x i
      · have c2' : ¬ strm x i ≤ k := by rw [Int32.not_le]; exact c2
        simp (disch := omega) only [↓wp_bnd, ↓wp_ret, ↓wp_ite, ↓reduceIte, s_rd A, s_fin A, n3_le, h1, n3_addl, g1, g2, g3, g4, g5, h2, c1, cnv_1, c2']
        simp [c2]
      · have c2' : strm x i ≤ k := by rw [← Int32.not_lt]; exact c2
        obtain ⟨c3 | ⟨c3, e, he2, c4⟩, -⟩ := hP.2.2.2.2.2.1 i hi
        · simp (disch := omega) only [↓wp_bnd, ↓wp_ret, ↓wp_ite, ↓reduceIte, s_rd A, s_fin A, n3_le, h1, n3_addl, g1, g2, g3, g4, g5, h2, c1, cnv_1, c2', c3]
          unfold mxI
          simp [c2]
          split <;> rfl
        · obtain ⟨a1, k1, k2, k3, -⟩ := s_empat (mc := mc) A he2
          simp (disch := omega) only [↓wp_bnd, ↓wp_ret, ↓wp_ite, ↓reduceIte, s_rd A, s_fin A, s_emp A, n3_le, h1, n3_addl, g1, g2, g3, g4, g5, h2, c1, cnv_1, c2', c3, c4, k1, k2, k3, n3_nn]
          unfold mxI
          simp [c2]
          split <;> rfl
    · simp (disch := omega) only [↓wp_bnd, ↓wp_ret, ↓wp_ite, ↓reduceIte, s_rd A, s_fin A, n3_le, h1, n3_addl, g1, g2, g3, g4, g5, h2, c1]
      simp
theorem s_mixed {k : Int32} {Q : Int32 → sd_H → Nat × Nat → Prop} (A : sA G n ρ K ad F q x em cs t) : wp (fX3_isMixed G (ad 0) k) (hSo G n ρ K ad F q x mc em t) b Q = Q (bI (mixB (q 22) (q 26) x t k)) (hSo G n ρ K ad F q x mc em t) b := by
  have hP := A.2.2.2.1
  have he := hP.2.2.1
  unfold fX3_isMixed
  refine Eq.trans (wp_lp (F := fun k s => fX3_isMixed_b2 G k s.1 s.2.1 s.2.2) (q 22) (fun i (_ : Unit) => (ad 0, k, n3 i)) (fun _ => hSo G n ρ K ad F q x mc em t) (fun _ _ => True) (fun a _ => if anyB (fun c => !decide (x 24 c ≤ x 25 a) && seeS (q 26) x t k (n3 a) && seeS (q 26) x t k (n3 c)) (q 22) then .inr true else .inl ()) (fun _ => false) (fun g => Q (bI g) (hSo G n ρ K ad F q x mc em t) b) ?_ ?_ sd_FU 0 () (Nat.zero_le _) (by unfold sd_FU; omega) trivial) rfl
  · intro k a _
    unfold fX3_isMixed_b2
    simp (disch := omega) only [↓wp_bnd, ↓wp_ret, ↓wp_ite, ↓reduceIte, s_rd A, s_emp A, n3_le, Nat.le_refl, bI_f]
  · intro kk i a hi _
    refine ⟨fun _ _ => trivial, ?_⟩
    have h1 : ¬ q 22 ≤ i := by omega
    unfold fX3_isMixed_b2
    simp (disch := omega) only [↓wp_bnd, ↓wp_ret, ↓wp_ite, ↓reduceIte, s_rd A, s_emp A, n3_le, h1]
    obtain ⟨a1, k1, k2, k3, k4⟩ := s_empat (mc := mc) A hi
    refine Eq.trans (wp_lp (F := fun k s => fX3_isMixed_b15 G kk k s.1 s.2.1 s.2.2.1 s.2.2.2) (q 22) (fun j (_ : Unit) => (ad 0, k, n3 i, n3 j)) (fun _ => hSo G n ρ K ad F q x mc em t) (fun _ _ => True) (fun c _ => if !decide (x 24 c ≤ x 25 i) && seeS (q 26) x t k (n3 i) && seeS (q 26) x t k (n3 c) then .inr true else .inl ()) (fun _ => false) (fun g => if g = true then Q 1 (hSo G n ρ K ad F q x mc em t) b else wp (kk (ad 0, k, n3 (i + 1))) (hSo G n ρ K ad F q x mc em t) b Q) ?_ ?_ sd_FU 0 () (Nat.zero_le _) (by unfold sd_FU; omega) trivial) ?_
    · intro k a _
      unfold fX3_isMixed_b15
      simp (disch := omega) only [↓wp_bnd, ↓wp_ret, ↓wp_ite, ↓reduceIte, s_rd A, s_emp A, n3_le, Nat.le_refl, n3_addl]
      simp
    · intro k2' j a hj _
      refine ⟨fun _ _ => trivial, ?_⟩
      have h2 : ¬ q 22 ≤ j := by omega
      obtain ⟨a2, m1, m2, m3, m4⟩ := s_empat (mc := mc) A hj
      unfold fX3_isMixed_b15
      simp (disch := omega) only [↓wp_bnd, ↓wp_ret, ↓wp_ite, ↓reduceIte, s_rd A, s_emp A, n3_le, h2, n3_addl, k1, k2, k3, k4, m1, m2, m3, m4, s_seenIn A, bI_0]
      by_cases c1 : x 24 j ≤ x 25 i
      · simp [c1]
      · cases c2 : seeS (q 26) x t k (n3 i)
        · simp [c1]
        · cases c3 : seeS (q 26) x t k (n3 j)
          · simp [c1]
          · simp [c1]
    · show (if anyB _ (q 22) = true then _ else _) = _
      split
      · next h3 => simp only [h3, ↓reduceIte, bI_t]
      · next h3 => simp only [h3]
end SQ
