/-! THE PLAIN LAW: what the model's small functions answer -/
section MR
variable {n : Nat} {ρ : Nat → Option Nat} {ad : Nat → Nat} {K : Nat → Option sd_E} {v : Nat → Int32} {x : Nat → Nat → Int32} {y : Nat → Nat → Int64} {G : sd_G} {t : TT} {b : Nat × Nat} {h : sd_H} {ns nf : Nat}
theorem m_isIn {a lo hi : Int32} {Q : Int32 → sd_H → Nat × Nat → Prop} : wp (fX5_isIn G a lo hi) h b Q = if a < lo then Q 0 h b else if hi < a then Q 0 h b else Q 1 h b := by
  unfold fX5_isIn
  simp only [wp_bnd, wp_ret, wp_ite, ↓reduceIte]
theorem m_one {a : Int32} {Q : Int32 → sd_H → Nat × Nat → Prop} : wp (fX5_one G a) h b Q = if a = 0 then Q 0 h b else Q 1 h b := by
  unfold fX5_one
  simp only [wp_bnd, wp_ret, wp_ite, ↓reduceIte]
theorem m_no {a : Int32} {Q : Int32 → sd_H → Nat × Nat → Prop} (E : mOk n ρ ad) : wp (fX5_no G (ad 0) a) (hMo n ρ ad K v x y) b Q = Q 0 (hMo n ρ ad K (upd v 0 a) x y) b := by
  unfold fX5_no
  simp only [wp_bnd, wp_ret, wp_ite, ↓reduceIte, mFl E, mPu E]
theorem m_isNot {a : Int32} {Q : Int32 → sd_H → Nat × Nat → Prop} (E : mOk n ρ ad) : wp (fX5_isNot G (ad 0) a) (hMo n ρ ad K v x y) b Q = Q 0 (hMo n ρ ad K (upd v 0 a) x y) b := by
  unfold fX5_isNot
  simp only [wp_bnd, wp_ret, wp_ite, ↓reduceIte, mFl E, mPu E]
theorem m_ok {a : Int32} {Q : Int32 → sd_H → Nat × Nat → Prop} (E : mOk n ρ ad) : wp (fX5_ok G (ad 0) a) (hMo n ρ ad K v x y) b Q = Q a (hMo n ρ ad K (upd v 0 0) x y) b := by
  unfold fX5_ok
  simp only [wp_bnd, wp_ret, wp_ite, ↓reduceIte, mFl E, mPu E]
theorem m_thrown {Q : Int32 → sd_H → Nat × Nat → Prop} (E : mOk n ρ ad) : wp (fX5_thrown G (ad 0)) (hMo n ρ ad K v x y) b Q = Q (v 0) (hMo n ρ ad K v x y) b := by
  unfold fX5_thrown
  simp only [wp_bnd, wp_ret, wp_ite, ↓reduceIte, mFl E, mPu E]
theorem nar_b0 : narrow .boolean (.int 0) = .int 0 := rfl
theorem nar_b1 : narrow .boolean (.int 1) = .int 1 := rfl
theorem m_isSeat {a : Int32} {Q : Int32 → sd_H → Nat × Nat → Prop} (E : mOk n ρ ad) (hp : ad 4 = ad 20) (hv : v 20 = n3 ns) (hn : ns ≤ 8) : wp (fX5_isSeat G (ad 0) a) (hMo n ρ ad K v x y) b Q = if a < 0 then Q 0 (hMo n ρ ad K v x y) b else if n3 ns ≤ a then Q 0 (hMo n ρ ad K v x y) b else Q 1 (hMo n ρ ad K v x y) b := by
  unfold fX5_isSeat
  simp only [wp_bnd, wp_ret, wp_ite, ↓reduceIte, mFl E, mPu E, hp, m_isIn, hv, n3_sub1 a ns (by omega), wp_retN nar_b0, wp_retN nar_b1]
theorem m_isFind {a : Int32} {Q : Int32 → sd_H → Nat × Nat → Prop} (E : mOk n ρ ad) (hp : ad 4 = ad 20) (hv : v 26 = n3 nf) (hn : nf ≤ 24) : wp (fX5_isFind G (ad 0) a) (hMo n ρ ad K v x y) b Q = if a < 0 then Q 0 (hMo n ρ ad K v x y) b else if n3 nf ≤ a then Q 0 (hMo n ρ ad K v x y) b else Q 1 (hMo n ρ ad K v x y) b := by
  unfold fX5_isFind
  simp only [wp_bnd, wp_ret, wp_ite, ↓reduceIte, mFl E, mPu E, hp, m_isIn, hv, n3_sub1 a nf (by omega), wp_retN nar_b0, wp_retN nar_b1]
theorem m_isStratum {a : Int32} {Q : Int32 → sd_H → Nat × Nat → Prop} {k : Nat} (E : mOk n ρ ad) (hp : ad 4 = ad 20) (hv : v 21 = n3 k) (hn : k ≤ 10) : wp (fX5_isStratum G (ad 0) a) (hMo n ρ ad K v x y) b Q = if a < 0 then Q 0 (hMo n ρ ad K v x y) b else if n3 k ≤ a then Q 0 (hMo n ρ ad K v x y) b else Q 1 (hMo n ρ ad K v x y) b := by
  unfold fX5_isStratum
  simp only [wp_bnd, wp_ret, wp_ite, ↓reduceIte, mFl E, mPu E, hp, m_isIn, hv, n3_sub1 a k (by omega), wp_retN nar_b0, wp_retN nar_b1]
theorem m_tall {s : Nat} {Q : Int32 → sd_H → Nat × Nat → Prop} (E : mOk n ρ ad) (hs : s < 8) : wp (fX5_tall G (ad 0) (n3 s)) (hMo n ρ ad K v (sx x (enc t)) y) b Q = Q (n3 (t.2.1 s)) (hMo n ρ ad K v (sx x (enc t)) y) b := by
  unfold fX5_tall
  simp (disch := omega) only [wp_bnd, wp_ret, wp_ite, ↓reduceIte, mFl E, mPu E, mAr E, mAs E, n3_ladd, sxs, enc_tl]
theorem m_top {s : Nat} {Q : Int32 → sd_H → Nat × Nat → Prop} (E : mOk n ρ ad) (hs : s < 8) (h1 : 1 ≤ t.2.1 s) (h2 : t.2.1 s ≤ 10) : wp (fX5_top G (ad 0) (n3 s)) (hMo n ρ ad K v (sx x (enc t)) y) b Q = Q (n3 (topC t s)) (hMo n ρ ad K v (sx x (enc t)) y) b := by
  unfold fX5_top
  simp (disch := omega) only [wp_bnd, wp_ret, wp_ite, ↓reduceIte, mFl E, mPu E, mAr E, mAs E, n3_add, n3_mul, n3_ladd, n3_addl, n3_lmul, n3_mull, n3_sub, n3_subl, n3_le, n3_lle, n3_lel, n3_lt, n3_llt, n3_ltl, n3_eq, n3_eql, n3_leq, n3_neg1, Nat.not_lt_zero, Nat.zero_add, Nat.add_zero, sxs, m_tall E, enc_top, topC]
theorem m_hasProp {s : Nat} {Q : Int32 → sd_H → Nat × Nat → Prop} (E : mOk n ρ ad) : wp (fX5_hasProp G (ad 0) (n3 s)) (hMo n ρ ad K v (sx x (enc t)) y) b Q = if isP t s = true then Q 1 (hMo n ρ ad K v (sx x (enc t)) y) b else Q 0 (hMo n ρ ad K v (sx x (enc t)) y) b := by
  unfold fX5_hasProp isP
  simp (disch := omega) only [wp_bnd, wp_ret, wp_ite, ↓reduceIte, mFl E, mPu E, mAr E, mAs E, ald_lit, sxs, enc_nu, decide_eq_true_eq]
theorem m_sure {f : Nat} {Q : Int32 → sd_H → Nat × Nat → Prop} (E : mOk n ρ ad) (hf : f < 24) : wp (fX5_sure G (ad 0) (n3 f)) (hMo n ρ ad K v (sx x (enc t)) y) b Q = if t.2.2.2.2 f = 2 then Q 1 (hMo n ρ ad K v (sx x (enc t)) y) b else Q 0 (hMo n ρ ad K v (sx x (enc t)) y) b := by
  unfold fX5_sure
  simp (disch := omega) only [wp_bnd, wp_ret, wp_ite, ↓reduceIte, mFl E, mPu E, mAr E, mAs E, n3_ladd, sxs, enc_ft]
theorem m_canS {o s : Nat} {Q : Int32 → sd_H → Nat × Nat → Prop} (E : mOk n ρ ad) (hp : ad 4 = ad 20) (hv : v 20 = n3 ns) (ok : okT ns nf t) (hs : s < ns) (ho : o ≤ 8) : wp (fX5_canSlide G (ad 0) (n3 o) (n3 s)) (hMo n ρ ad K v (sx x (enc t)) y) b Q = if canS ns (x 31) t o s = true then Q 1 (hMo n ρ ad K v (sx x (enc t)) y) b else Q 0 (hMo n ρ ad K v (sx x (enc t)) y) b := by
  have q2 := ok.2.1
  have q4 := ok.2.2.1 s hs
  unfold fX5_canSlide
  by_cases h1 : ns ≤ o
  · have e : canS ns (x 31) t o s = false := by
      unfold canS
      rw [decide_eq_false (show ¬ o < ns by omega)]
      rfl
    rw [e]
    simp (disch := omega) only [wp_bnd, wp_ret, wp_ite, ↓reduceIte, mFl E, mPu E, m_isSeat E hp hv q2, n3_add, n3_mul, n3_ladd, n3_addl, n3_lmul, n3_mull, n3_sub, n3_subl, n3_le, n3_lle, n3_lel, n3_lt, n3_llt, n3_ltl, n3_eq, n3_eql, n3_leq, n3_neg1, Nat.not_lt_zero, Nat.zero_add, Nat.add_zero, h1]
    simp
  · have q3 := ok.2.2.1 o (by omega)
    by_cases h2 : t.2.1 o ≤ t.2.1 s + 3
    · have e : canS ns (x 31) t o s = false := by
        unfold canS
        rw [decide_eq_false (show ¬ t.2.1 s + 3 < t.2.1 o by omega)]
        simp
      rw [e]
      simp (disch := omega) only [wp_bnd, wp_ret, wp_ite, ↓reduceIte, mFl E, mPu E, m_isSeat E hp hv q2, n3_add, n3_mul, n3_ladd, n3_addl, n3_lmul, n3_mull, n3_sub, n3_subl, n3_le, n3_lle, n3_lel, n3_lt, n3_llt, n3_ltl, n3_eq, n3_eql, n3_leq, n3_neg1, Nat.not_lt_zero, Nat.zero_add, Nat.add_zero, h1, m_tall E, h2]
      simp
    · have h3 := ok.top (show o < ns by omega) (by omega)
      simp (disch := omega) only [wp_bnd, wp_ret, wp_ite, ↓reduceIte, mFl E, mPu E, mAr E, mAs E, m_isSeat E hp hv q2, n3_add, n3_mul, n3_ladd, n3_addl, n3_lmul, n3_mull, n3_sub, n3_subl, n3_le, n3_lle, n3_lel, n3_lt, n3_llt, n3_ltl, n3_eq, n3_eql, n3_leq, n3_neg1, Nat.not_lt_zero, Nat.zero_add, Nat.add_zero, h1, m_tall E, h2, m_hasProp E, m_top E, hp, sxs]
      unfold canS
      rw [decide_eq_true (show o < ns by omega), decide_eq_true (show t.2.1 s + 3 < t.2.1 o by omega)]
      cases isP t o <;> simp
end MR
