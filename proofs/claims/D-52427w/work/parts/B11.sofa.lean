/-! THE PLAIN LAW: a sofa of the component. Names: 0 the sofa, 3 its ends, 10 + s a seat's list, 20 + s its array, 100 + c a cushion; what else it has (lists of seats, of empires, finds, orders) lies outside, unchanged -/
/-- outside: what lies at a, whatever is named -/
def im (G : sd_G) (n : Nat) (ρ : Nat → Option Nat) (K : Nat → Option sd_E) (a : Nat) (e : sd_E) : Prop := ρ a = none ∧ a < n ∧ (match K a with
  | some e' => some e'
  | none => sd_c G a) = some e
theorem im_look {G : sd_G} {n : Nat} {ρ : Nat → Option Nat} {K : Nat → Option sd_E} {a : Nat} {e : sd_E} {c : Nat → sd_E} (h : im G n ρ K a e) : sd_look G (nh n ρ c K) a = some e := by
  obtain ⟨h1, -, h2⟩ := h
  unfold sd_look
  rw [nh_out h1]
  exact h2
def cnv (z : Int32) : Int32 := if z = 2 then 1 else if z = 1 then 2 else 0
def cS (ad F : Nat → Nat) (q : Nat → Nat) (x : Nat → Nat → Int32) (z0 : Nat) (mc : Nat → Int32) (em : Nat → Bool) (t : TT) : Nat → sd_E := fun i =>
  if i = 0 then .inr (2, [.int (n3 (q 21)), .int (n3 (q 20)), .ref (F 2), .ref (F 3), .ref (F 4), .ref (F 5), .ref (ad 3), .int (t.1 4), .int (t.1 0), .int (t.1 1), .int (t.1 2), .int (t.1 3)])
  else if i = 3 then .inl (0, 24, .inl (fun f => cnv (t.2.2.2.2 f)))
  else if i < 20 then aL (mc (i - 10)) (if em (i - 10) = true then z0 else ad (i + 10)) (t.2.1 (i - 10))
  else if i < 100 then aR 10 (fun k => if k < t.2.1 (i - 20) then some (ad (100 + t.2.2.1 (10 * (i - 20) + k))) else none)
  else .inr (3, [.int (n3 ((i - 100) % 10)), .int (x 30 (i - 100)), .int (x 31 (i - 100)), .int (t.2.2.2.1 (i - 100))])
/-- the names in use -/
def sV (ns : Nat) (em cs : Nat → Bool) (i : Nat) : Prop := i = 0 ∨ i = 3 ∨ (10 ≤ i ∧ i < 10 + ns) ∨ (20 ≤ i ∧ i < 20 + ns ∧ em (i - 20) = false) ∨ (100 ≤ i ∧ i < 180 ∧ cs (i - 100) = true)
def sOk (n : Nat) (ρ : Nat → Option Nat) (ad : Nat → Nat) (ns : Nat) (em cs : Nat → Bool) : Prop := (∀ i, sV ns em cs i → ρ (ad i) = some i) ∧ (∀ a i, ρ a = some i → a = ad i ∧ sV ns em cs i) ∧ ∀ a i, ρ a = some i → a < n
/-- stacks hold cushions that are there -/
def sT (ns : Nat) (em cs : Nat → Bool) (t : TT) : Prop := (∀ s k, s < ns → k < t.2.1 s → cs (t.2.2.1 (10 * s + k)) = true) ∧ ∀ s, s < ns → em s = true → t.2.1 s = 0
/-- the lists outside -/
def sF (G : sd_G) (n : Nat) (ρ : Nat → Option Nat) (K : Nat → Option sd_E) (ad F : Nat → Nat) (q : Nat → Nat) (x : Nat → Nat → Int32) : Prop :=
  (∃ m r c f, im G n ρ K (F 2) (aL m r (q 20)) ∧ im G n ρ K r (aR c f) ∧ q 20 ≤ c ∧ c ≤ 1000 ∧ ∀ i, i < q 20 → f i = some (ad (10 + i))) ∧
  (∃ m r c f, im G n ρ K (F 3) (aL m r (q 22)) ∧ im G n ρ K r (aR c f) ∧ q 22 ≤ c ∧ c ≤ 1000 ∧ ∀ i, i < q 22 → ∃ a, f i = some a ∧ im G n ρ K a (.inr (10, [.int (x 24 i), .int (x 25 i)]))) ∧
  (∃ m r c f, im G n ρ K (F 4) (aL m r (q 26)) ∧ im G n ρ K r (aR c f) ∧ q 26 ≤ c ∧ c ≤ 1000 ∧ ∀ i, i < q 26 → ∃ a, f i = some a ∧ im G n ρ K a (.inr (11, [.int (x 27 i), .int (x 29 i), .int (strm x i)]))) ∧
  ∃ f, im G n ρ K (sd_ad G 0) (aR 0 f)
def hSo (G : sd_G) (n : Nat) (ρ : Nat → Option Nat) (K : Nat → Option sd_E) (ad F : Nat → Nat) (q : Nat → Nat) (x : Nat → Nat → Int32) (mc : Nat → Int32) (em : Nat → Bool) (t : TT) : sd_H := nh n ρ (cS ad F q x (sd_ad G 0) mc em t) K
/-- all of it -/
def sA (G : sd_G) (n : Nat) (ρ : Nat → Option Nat) (K : Nat → Option sd_E) (ad F : Nat → Nat) (q : Nat → Nat) (x : Nat → Nat → Int32) (em cs : Nat → Bool) (t : TT) : Prop := sOk n ρ ad (q 20) em cs ∧ sT (q 20) em cs t ∧ sF G n ρ K ad F q x ∧ okP q x ∧ okT (q 20) (q 26) t
theorem cu_rd {G : sd_G} {h : sd_H} {a : Nat} {z0 z1 z2 z3 : Int32} (ha : sd_look G h a = some (.inr (3, [.int z0, .int z1, .int z2, .int z3]))) : (∀ b (Q : Int32 → sd_H → Nat × Nat → Prop), wp (sd_getI G 3 0 a) h b Q = Q z0 h b) ∧ (∀ b (Q : Int32 → sd_H → Nat × Nat → Prop), wp (sd_getI G 3 1 a) h b Q = Q z1 h b) ∧ (∀ b (Q : Int32 → sd_H → Nat × Nat → Prop), wp (sd_getI G 3 2 a) h b Q = Q z2 h b) ∧ (∀ b (Q : Int32 → sd_H → Nat × Nat → Prop), wp (sd_getI G 3 3 a) h b Q = Q z3 h b) := ⟨fun _ _ => wp_getI ha rfl, fun _ _ => wp_getI ha rfl, fun _ _ => wp_getI ha rfl, fun _ _ => wp_getI ha rfl⟩
section SR
variable {G : sd_G} {n : Nat} {ρ : Nat → Option Nat} {K : Nat → Option sd_E} {ad F : Nat → Nat} {q : Nat → Nat} {x : Nat → Nat → Int32} {mc : Nat → Int32} {em cs : Nat → Bool} {t : TT} {b : Nat × Nat}
theorem s_look {i : Nat} (A : sA G n ρ K ad F q x em cs t) (hi : sV (q 20) em cs i) : sd_look G (hSo G n ρ K ad F q x mc em t) (ad i) = some (cS ad F q x (sd_ad G 0) mc em t i) := nh_look (A.1.1 i hi)
theorem s_rd (A : sA G n ρ K ad F q x em cs t) : (∀ b (Q : Int32 → sd_H → Nat × Nat → Prop), wp (sd_getI G 2 0 (ad 0)) (hSo G n ρ K ad F q x mc em t) b Q = Q (n3 (q 21)) (hSo G n ρ K ad F q x mc em t) b) ∧
    (∀ b (Q : Int32 → sd_H → Nat × Nat → Prop), wp (sd_getI G 2 1 (ad 0)) (hSo G n ρ K ad F q x mc em t) b Q = Q (n3 (q 20)) (hSo G n ρ K ad F q x mc em t) b) ∧
    (∀ b (Q : Nat → sd_H → Nat × Nat → Prop), wp (sd_getR G 2 2 (ad 0)) (hSo G n ρ K ad F q x mc em t) b Q = Q (F 2) (hSo G n ρ K ad F q x mc em t) b) ∧
    (∀ b (Q : Nat → sd_H → Nat × Nat → Prop), wp (sd_getR G 2 3 (ad 0)) (hSo G n ρ K ad F q x mc em t) b Q = Q (F 3) (hSo G n ρ K ad F q x mc em t) b) ∧
    (∀ b (Q : Nat → sd_H → Nat × Nat → Prop), wp (sd_getR G 2 4 (ad 0)) (hSo G n ρ K ad F q x mc em t) b Q = Q (F 4) (hSo G n ρ K ad F q x mc em t) b) ∧
    (∀ b (Q : Nat → sd_H → Nat × Nat → Prop), wp (sd_getR G 2 5 (ad 0)) (hSo G n ρ K ad F q x mc em t) b Q = Q (F 5) (hSo G n ρ K ad F q x mc em t) b) ∧
    (∀ b (Q : Nat → sd_H → Nat × Nat → Prop), wp (sd_getR G 2 6 (ad 0)) (hSo G n ρ K ad F q x mc em t) b Q = Q (ad 3) (hSo G n ρ K ad F q x mc em t) b) ∧
    (∀ b (Q : Int32 → sd_H → Nat × Nat → Prop), wp (sd_getI G 2 7 (ad 0)) (hSo G n ρ K ad F q x mc em t) b Q = Q (t.1 4) (hSo G n ρ K ad F q x mc em t) b) ∧
    (∀ b (Q : Int32 → sd_H → Nat × Nat → Prop), wp (sd_getI G 2 8 (ad 0)) (hSo G n ρ K ad F q x mc em t) b Q = Q (t.1 0) (hSo G n ρ K ad F q x mc em t) b) ∧
    (∀ b (Q : Int32 → sd_H → Nat × Nat → Prop), wp (sd_getI G 2 9 (ad 0)) (hSo G n ρ K ad F q x mc em t) b Q = Q (t.1 1) (hSo G n ρ K ad F q x mc em t) b) ∧
    (∀ b (Q : Int32 → sd_H → Nat × Nat → Prop), wp (sd_getI G 2 10 (ad 0)) (hSo G n ρ K ad F q x mc em t) b Q = Q (t.1 2) (hSo G n ρ K ad F q x mc em t) b) ∧
    (∀ b (Q : Int32 → sd_H → Nat × Nat → Prop), wp (sd_getI G 2 11 (ad 0)) (hSo G n ρ K ad F q x mc em t) b Q = Q (t.1 3) (hSo G n ρ K ad F q x mc em t) b) ∧
    (∀ b (Q : Unit → sd_H → Nat × Nat → Prop), wp (sd_isC G 2 (ad 0)) (hSo G n ρ K ad F q x mc em t) b Q = Q () (hSo G n ρ K ad F q x mc em t) b) ∧
    (∀ f b (Q : Int32 → sd_H → Nat × Nat → Prop), f < 24 → wp (sd_aldI G 0 (ad 3) (n3 f)) (hSo G n ρ K ad F q x mc em t) b Q = Q (cnv (t.2.2.2.2 f)) (hSo G n ρ K ad F q x mc em t) b) := by
  have h0 := s_look (mc := mc) A (Or.inl rfl)
  have h3 := s_look (mc := mc) A (Or.inr (Or.inl rfl))
  refine ⟨fun _ _ => wp_getI h0 rfl, fun _ _ => wp_getI h0 rfl, fun _ _ => wp_getR h0 rfl, fun _ _ => wp_getR h0 rfl, fun _ _ => wp_getR h0 rfl, fun _ _ => wp_getR h0 rfl, fun _ _ => wp_getR h0 rfl, fun _ _ => wp_getI h0 rfl, fun _ _ => wp_getI h0 rfl, fun _ _ => wp_getI h0 rfl, fun _ _ => wp_getI h0 rfl, fun _ _ => wp_getI h0 rfl, fun _ _ => wp_isC h0, fun f b Q hf => ?_⟩
  rw [wp_aldI (n := 24) h3 (n3_ix hf (by omega)), n3_nn (by omega)]
theorem s_list {s : Nat} (A : sA G n ρ K ad F q x em cs t) (hs : s < q 20) : sd_look G (hSo G n ρ K ad F q x mc em t) (ad (10 + s)) = some (aL (mc s) (if em s = true then sd_ad G 0 else ad (20 + s)) (t.2.1 s)) := by
  have h8 := A.2.2.2.1.1.2
  rw [s_look A (Or.inr (Or.inr (Or.inl ⟨by omega, by omega⟩)))]
  unfold cS
  rw [if_neg (by omega), if_neg (by omega), if_pos (by omega), show 10 + s - 10 = s by omega, show 10 + s + 10 = 20 + s by omega]
theorem s_arr {s : Nat} (A : sA G n ρ K ad F q x em cs t) (hs : s < q 20) (he : em s = false) : sd_look G (hSo G n ρ K ad F q x mc em t) (ad (20 + s)) = some (aR 10 (fun k => if k < t.2.1 s then some (ad (100 + t.2.2.1 (10 * s + k))) else none)) := by
  have h8 := A.2.2.2.1.1.2
  rw [s_look A (Or.inr (Or.inr (Or.inr (Or.inl ⟨by omega, by omega, by rw [show 20 + s - 20 = s by omega]; exact he⟩))))]
  unfold cS
  rw [if_neg (by omega), if_neg (by omega), if_neg (by omega), if_pos (by omega), show 20 + s - 20 = s by omega]
theorem s_cush {c : Nat} (A : sA G n ρ K ad F q x em cs t) (hc : c < 80) (h : cs c = true) : sd_look G (hSo G n ρ K ad F q x mc em t) (ad (100 + c)) = some (.inr (3, [.int (n3 (c % 10)), .int (x 30 c), .int (x 31 c), .int (t.2.2.2.1 c)])) := by
  rw [s_look A (Or.inr (Or.inr (Or.inr (Or.inr ⟨by omega, by omega, by rw [show 100 + c - 100 = c by omega]; exact h⟩))))]
  unfold cS
  rw [if_neg (by omega), if_neg (by omega), if_neg (by omega), if_neg (by omega), show 100 + c - 100 = c by omega]
theorem s_seat {s : Nat} {b : Nat × Nat} {Q : Nat → sd_H → Nat × Nat → Prop} (A : sA G n ρ K ad F q x em cs t) (hs : s < q 20) : wp (fJ2_get G (F 2) (n3 s)) (hSo G n ρ K ad F q x mc em t) b Q = Q (ad (10 + s)) (hSo G n ρ K ad F q x mc em t) b := by
  obtain ⟨m, r, c, f, h1, h2, h3, h4, h5⟩ := A.2.2.1.1
  exact j_get (im_look h1) (im_look h2) hs h3 (by omega) (h5 s hs)
theorem s_isS (A : sA G n ρ K ad F q x em cs t) {b : Nat × Nat} {Q : Unit → sd_H → Nat × Nat → Prop} : wp (sd_isC G 41 (F 2)) (hSo G n ρ K ad F q x mc em t) b Q = Q () (hSo G n ρ K ad F q x mc em t) b := by
  obtain ⟨m, r, c, f, h1, -⟩ := A.2.2.1.1
  exact wp_isC (im_look h1)
theorem s_height {s : Nat} {b : Nat × Nat} {Q : Int32 → sd_H → Nat × Nat → Prop} (A : sA G n ρ K ad F q x em cs t) (hs : s < q 20) : wp (fX3_height G (ad 0) (n3 s)) (hSo G n ρ K ad F q x mc em t) b Q = Q (n3 (t.2.1 s)) (hSo G n ρ K ad F q x mc em t) b := by
  unfold fX3_height
  simp only [wp_bnd, wp_ret, s_rd A, s_isS A, s_seat A hs, al_rd (s_list A hs), j_size (s_list A hs)]
theorem s_get {s k : Nat} {b : Nat × Nat} {Q : Nat → sd_H → Nat × Nat → Prop} (A : sA G n ρ K ad F q x em cs t) (hs : s < q 20) (hk : k < t.2.1 s) : wp (fJ2_get G (ad (10 + s)) (n3 k)) (hSo G n ρ K ad F q x mc em t) b Q = Q (ad (100 + t.2.2.1 (10 * s + k))) (hSo G n ρ K ad F q x mc em t) b := by
  have he : em s = false := by
    cases h : em s with
    | false => rfl
    | true =>
      have := A.2.1.2 s hs h
      omega
  have h10 := A.2.2.2.2.2.2.1 s hs
  have h1 := s_list (mc := mc) A hs
  rw [he] at h1
  exact j_get h1 (s_arr A hs he) hk h10 (by omega) (if_pos hk)
theorem s_cu {s k : Nat} (A : sA G n ρ K ad F q x em cs t) (hs : s < q 20) (hk : k < t.2.1 s) : sd_look G (hSo G n ρ K ad F q x mc em t) (ad (100 + t.2.2.1 (10 * s + k))) = some (.inr (3, [.int (n3 (t.2.2.1 (10 * s + k) % 10)), .int (x 30 (t.2.2.1 (10 * s + k))), .int (x 31 (t.2.2.1 (10 * s + k))), .int (t.2.2.2.1 (t.2.2.1 (10 * s + k)))])) := s_cush A (A.2.2.2.2.2.2.2.1 s k hs hk) (A.2.1.1 s k hs hk)
theorem s_top {s : Nat} {b : Nat × Nat} {Q : Nat → sd_H → Nat × Nat → Prop} (A : sA G n ρ K ad F q x em cs t) (hs : s < q 20) (h1 : 1 ≤ t.2.1 s) : wp (fX3_top G (ad 0) (n3 s)) (hSo G n ρ K ad F q x mc em t) b Q = Q (ad (100 + topC t s)) (hSo G n ρ K ad F q x mc em t) b := by
  have h10 := A.2.2.2.2.2.2.1 s hs
  have hk : t.2.1 s - 1 < t.2.1 s := by omega
  unfold fX3_top
  simp (disch := omega) only [wp_bnd, wp_ret, s_rd A, s_isS A, s_seat A hs, al_rd (s_list A hs), s_height A hs, n3_subl, s_get A hs hk, wp_cast (s_cu A hs hk) (show 3 ∈ [3] by decide)]
  rfl
theorem s_isP {s : Nat} {b : Nat × Nat} {Q : Int32 → sd_H → Nat × Nat → Prop} (A : sA G n ρ K ad F q x em cs t) : wp (fX3_isPropped G (ad 0) (n3 s)) (hSo G n ρ K ad F q x mc em t) b Q = Q (bI (isP t s)) (hSo G n ρ K ad F q x mc em t) b := by
  unfold fX3_isPropped isP bI
  simp only [wp_bnd, wp_ret, wp_ite, s_rd A, decide_eq_true_eq]
  split <;> rfl
theorem s_slides {o s : Nat} {b : Nat × Nat} {Q : Int32 → sd_H → Nat × Nat → Prop} (A : sA G n ρ K ad F q x em cs t) (hs : s < q 20) (ho : o ≤ 8) : wp (fX3_slides G (ad 0) (n3 o) (n3 s)) (hSo G n ρ K ad F q x mc em t) b Q = Q (bI (canS (q 20) (x 31) t o s)) (hSo G n ρ K ad F q x mc em t) b := by
  have q8 := A.2.2.2.1.1.2
  have q10 := A.2.2.2.2.2.2.1
  unfold fX3_slides
  by_cases h1 : q 20 ≤ o
  · have e : canS (q 20) (x 31) t o s = false := by
      unfold canS
      rw [decide_eq_false (show ¬ o < q 20 by omega)]
      rfl
    simp (disch := omega) only [↓wp_bnd, ↓wp_ret, ↓wp_ite, ↓reduceIte, s_rd A, n3_nlt0, n3_le, h1, e, bI_f]
  · have ho' : o < q 20 := by omega
    have a1 := q10 o ho'
    have a2 := q10 s hs
    by_cases h2 : t.2.1 o ≤ t.2.1 s + 3
    · have e : canS (q 20) (x 31) t o s = false := by
        unfold canS
        rw [decide_eq_false (show ¬ t.2.1 s + 3 < t.2.1 o by omega)]
        simp
      simp (disch := omega) only [↓wp_bnd, ↓wp_ret, ↓wp_ite, ↓reduceIte, s_rd A, n3_nlt0, n3_le, h1, e, bI_f, s_height A ho', s_height A hs, n3_subl3, h2]
    · have hk : t.2.1 o - 1 < t.2.1 o := by omega
      have hc : sd_look G (hSo G n ρ K ad F q x mc em t) (ad (100 + topC t o)) = some (.inr (3, [.int (n3 (topC t o % 10)), .int (x 30 (topC t o)), .int (x 31 (topC t o)), .int (t.2.2.2.1 (topC t o))])) := s_cu A ho' hk
      have e : canS (q 20) (x 31) t o s = (!isP t o && decide (x 31 (topC t o) = 0)) := by
        unfold canS
        rw [decide_eq_true ho', decide_eq_true (show t.2.1 s + 3 < t.2.1 o by omega)]
        simp
      simp (disch := omega) only [↓wp_bnd, ↓wp_ret, ↓wp_ite, ↓reduceIte, s_rd A, n3_nlt0, n3_le, h1, s_height A ho', s_height A hs, n3_subl3, h2, s_isP A, bI_0, s_top A ho']
      rw [e]
      cases isP t o with
      | true => simp [bI]
      | false =>
        simp only [↓reduceIte, cu_rd hc]
        by_cases hx : x 31 (topC t o) = 0 <;> simp [hx, bI]
theorem s_slides0 {s : Nat} {b : Nat × Nat} {Q : Int32 → sd_H → Nat × Nat → Prop} (hh : sd_H) : wp (fX3_slides G (ad 0) (-1) (n3 s)) hh b Q = Q 0 hh b := by
  unfold fX3_slides
  simp only [↓wp_bnd, ↓wp_ret, ↓wp_ite, ↓reduceIte, show ((-1 : Int32) < 0) = True from by decide]
theorem s_sliding {s : Nat} {b : Nat × Nat} {Q : Int32 → sd_H → Nat × Nat → Prop} (A : sA G n ρ K ad F q x em cs t) (hs : s < q 20) : wp (fX3_sliding G (ad 0) (n3 s)) (hSo G n ρ K ad F q x mc em t) b Q = Q (match frm (q 20) (x 31) t s with
    | some o => n3 o
    | none => -1) (hSo G n ρ K ad F q x mc em t) b := by
  have q8 := A.2.2.2.1.1.2
  have hl : ∀ Q' : Int32 → sd_H → Nat × Nat → Prop, wp (fX3_slides G (ad 0) (n3 s - 1) (n3 s)) (hSo G n ρ K ad F q x mc em t) b Q' = Q' (bI (decide (1 ≤ s) && canS (q 20) (x 31) t (s - 1) s)) (hSo G n ρ K ad F q x mc em t) b := by
    intro Q'
    cases s with
    | zero => rw [n3_0sub1, s_slides0]; rfl
    | succ s =>
      rw [show n3 (s + 1) - 1 = n3 s from n3_sub (show 1 ≤ s + 1 by omega), s_slides A hs (by omega)]
      simp
  unfold fX3_sliding
  simp (disch := omega) only [↓wp_bnd, ↓wp_ret, ↓wp_ite, ↓reduceIte, s_rd A, hl, bI_0, n3_addl, s_slides A hs]
  unfold frm
  by_cases c1 : 1 ≤ s ∧ canS (q 20) (x 31) t (s - 1) s = true
  · rw [if_pos c1]
    simp only [c1.1, c1.2, decide_true, Bool.and_self, Bool.true_eq_false, ↓reduceIte]
    rw [show n3 s - 1 = n3 (s - 1) from n3_sub c1.1]
  · rw [if_neg c1]
    have c2 : (decide (1 ≤ s) && canS (q 20) (x 31) t (s - 1) s) = false := by
      cases h : canS (q 20) (x 31) t (s - 1) s
      · simp
      · simp [h] at c1
        simp
        omega
    simp only [c2, ↓reduceIte]
    cases canS (q 20) (x 31) t (s + 1) s <;> simp
end SR
