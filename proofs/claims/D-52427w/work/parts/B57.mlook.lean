/-! THE PLAIN LAW: the model's second look, token by token. Printed by gen/mk_B57.py -/
theorem n6_lt' {a b : Nat} (ha : a < 9223372036854775808) (hb : b < 9223372036854775808) : (n6 a < n6 b) = (a < b) := by
  apply propext
  rw [Int64.lt_iff_toInt_lt, n6_toInt ha, n6_toInt hb]
  exact Int.ofNat_lt
theorem n6_le' {a b : Nat} (ha : a < 9223372036854775808) (hb : b < 9223372036854775808) : (n6 a ≤ n6 b) = (a ≤ b) := by
  apply propext
  rw [Int64.le_iff_toInt_le, n6_toInt ha, n6_toInt hb]
  exact Int.ofNat_le
theorem lgn_lt {a b : Nat} (ha : a < 1000000) (hb : b < 1000000) : (lg_cmp (n6 a) (n6 b) < 0) = (a < b) := (propext (lg_cmp_lt _ _)).trans (n6_lt' (by omega) (by omega))
theorem lgn_le {a b : Nat} (ha : a < 1000000) (hb : b < 1000000) : (lg_cmp (n6 a) (n6 b) ≤ 0) = (a ≤ b) := (propext (lg_cmp_le _ _)).trans (n6_le' (by omega) (by omega))
theorem lgn_gt {a b : Nat} (ha : a < 1000000) (hb : b < 1000000) : (0 < lg_cmp (n6 a) (n6 b)) = (b < a) := (propext (lg_cmp_gt _ _)).trans (n6_lt' (by omega) (by omega))
theorem lgn_ge {a b : Nat} (ha : a < 1000000) (hb : b < 1000000) : (0 ≤ lg_cmp (n6 a) (n6 b)) = (b ≤ a) := (propext (lg_cmp_ge _ _)).trans (n6_le' (by omega) (by omega))
def oN : Option Nat → Int32
  | none => -1
  | some e => n3 e
theorem fnN_lt {nm : Nat → Nat} {z : Nat} : ∀ r k e, fnN nm z r k = some e → k ≤ e ∧ e < k + r ∧ nm e = z := by
  intro r
  induction r with
  | zero => intro k e h; cases h
  | succ r ih =>
    intro k e h
    simp only [fnN] at h
    split at h
    · next c =>
      cases h
      exact ⟨Nat.le_refl _, by omega, c⟩
    · have := ih (k + 1) e h
      exact ⟨by omega, by omega, this.2.2⟩
section ML2
variable {n : Nat} {ρ : Nat → Option Nat} {ad : Nat → Nat} {K : Nat → Option sd_E} {v : Nat → Int32} {x : Nat → Nat → Int32} {y : Nat → Nat → Int64} {G : sd_G} {b : Nat × Nat} {k : Nat}
theorem ra_5 {Q : Int32 → sd_H → Nat × Nat → Prop} (E : mOk n ρ ad) (hk : k < 401) : wp (sd_aldI G 0 (ad 5) (n3 k)) (hMo n ρ ad K v x y) b Q = Q (x 5 k) (hMo n ρ ad K v x y) b := hMo_ald (i := 5) E (by decide) (by decide) (by decide) (by decide) (by decide) hk
theorem ra_6 {Q : Int32 → sd_H → Nat × Nat → Prop} (E : mOk n ρ ad) (hk : k < 401) : wp (sd_aldI G 0 (ad 6) (n3 k)) (hMo n ρ ad K v x y) b Q = Q (x 6 k) (hMo n ρ ad K v x y) b := hMo_ald (i := 6) E (by decide) (by decide) (by decide) (by decide) (by decide) hk
theorem ra_7 {Q : Int32 → sd_H → Nat × Nat → Prop} (E : mOk n ρ ad) (hk : k < 401) : wp (sd_aldI G 0 (ad 7) (n3 k)) (hMo n ρ ad K v x y) b Q = Q (x 7 k) (hMo n ρ ad K v x y) b := hMo_ald (i := 7) E (by decide) (by decide) (by decide) (by decide) (by decide) hk
theorem ra_8 {Q : Int64 → sd_H → Nat × Nat → Prop} (E : mOk n ρ ad) (hk : k < 401) : wp (sd_aldL G (ad 8) (n3 k)) (hMo n ρ ad K v x y) b Q = Q (y 8 k) (hMo n ρ ad K v x y) b := hMo_aldL (i := 8) E (by decide) (by decide) (by decide) (by decide) (by decide) hk
theorem wp_br {α : Type} {f : sd_M α} {h : sd_H} {Q : α → sd_H → Nat × Nat → Prop} : wp (sd_bnd f fun r => sd_ret r) h b Q = wp f h b Q := by
  rw [wp_bnd]
  congr 1
  funext a h1 b1
  exact wp_ret
theorem m_find {nm : Nat → Nat} {z ne : Nat} {Q : Int32 → sd_H → Nat × Nat → Prop} (E : mOk n ρ ad) (hv : v 22 = n3 ne) (hn : ne ≤ 6) (hy : ∀ j, j < ne → y 23 j = n6 (nm j) ∧ nm j < 9223372036854775808) (hz : z < 9223372036854775808) : wp (fX5_find G (ad 20) (n6 z)) (hMo n ρ ad K v x y) b Q = Q (oN (fnN nm z ne 0)) (hMo n ρ ad K v x y) b := by
  have key : ∀ (r j fu : Nat), j + r = ne → r < fu → wp (sd_loop (fun k s => fX5_find_b2 G k s.1 s.2.1 s.2.2) fu (ad 20, n6 z, n3 j)) (hMo n ρ ad K v x y) b Q = Q (oN (fnN nm z r j)) (hMo n ρ ad K v x y) b := by
    intro r
    induction r with
    | zero =>
      intro j fu h1 h2
      obtain ⟨fu, rfl⟩ : ∃ q, fu = q + 1 := ⟨fu - 1, by omega⟩
      show wp (fX5_find_b2 G _ (ad 20) (n6 z) (n3 j)) _ b Q = _
      unfold fX5_find_b2
      rw [wp_bnd, hMo_getI5 E rfl, hv, wp_ite, if_pos (by rw [n3_le (by omega) (by omega)]; omega), wp_ret]
      rfl
    | succ r ih =>
      intro j fu h1 h2
      obtain ⟨fu, rfl⟩ : ∃ q, fu = q + 1 := ⟨fu - 1, by omega⟩
      obtain ⟨y1, y2⟩ := hy j (by omega)
      show wp (fX5_find_b2 G _ (ad 20) (n6 z) (n3 j)) _ b Q = _
      unfold fX5_find_b2
      rw [wp_bnd, hMo_getI5 E rfl, hv, wp_ite, if_neg (by rw [n3_le (by omega) (by omega)]; omega), wp_bnd, hMo_getR5 E rfl, wp_bnd]
      simp (disch := omega) only [↓mAr E, mAr E, ↓mAs E, mAs E, y1]
      simp only [fnN]
      rw [wp_ite]
      by_cases c : nm j = z
      · rw [if_pos c, if_pos (by rw [c]; exact lg_refl _), wp_ret]
        rfl
      · rw [if_neg c, if_neg, wp_bnd, wp_ret, n3_suc]
        · exact ih (j + 1) fu (by omega) (by omega)
        · rw [lg_cmp_eq, n6_inj y2 hz]
          exact c
  exact key ne 0 sd_FU (by omega) (by unfold sd_FU; omega)

theorem e_0 {Q : Int32 → sd_H → Nat × Nat → Prop} (E : mOk n ρ ad) (hk : k ≤ 400) (hz : x 7 k = 0) : wp (fX5_errorOf G (ad 0) (ad 20) (n3 k)) (hMo n ρ ad K v x y) b Q = Q 0 (hMo n ρ ad K v x y) b := by
  unfold fX5_errorOf
  rw [wp_bnd, hMo_getR4 E rfl, wp_bnd, ra_7 E (by omega)]
  rw [hz, if_pos rfl, wp_ret]
theorem e_1 {Q : Int32 → sd_H → Nat × Nat → Prop} (E : mOk n ρ ad) (hk : k ≤ 400) (hz : x 7 k = 1) : wp (fX5_errorOf G (ad 0) (ad 20) (n3 k)) (hMo n ρ ad K v x y) b Q = wp (fX5_itsSeats G (ad 0) (ad 20) (y 8 k)) (hMo n ρ ad K v x y) b Q := by
  unfold fX5_errorOf
  rw [wp_bnd, hMo_getR4 E rfl, wp_bnd, ra_7 E (by omega)]
  rw [hz, if_neg (by decide), if_pos rfl]
  rw [wp_bnd, hMo_getR4 E rfl, wp_bnd, ra_8 E (by omega), wp_bnd, hMo_isC4 E, wp_br]
theorem e_2 {Q : Int32 → sd_H → Nat × Nat → Prop} (E : mOk n ρ ad) (hk : k ≤ 400) (hz : x 7 k = 2) : wp (fX5_errorOf G (ad 0) (ad 20) (n3 k)) (hMo n ρ ad K v x y) b Q = wp (fX5_itsLayers G (ad 0) (ad 20) (y 8 k)) (hMo n ρ ad K v x y) b Q := by
  unfold fX5_errorOf
  rw [wp_bnd, hMo_getR4 E rfl, wp_bnd, ra_7 E (by omega)]
  rw [hz, if_neg (by decide), if_neg (by decide), if_pos rfl]
  rw [wp_bnd, hMo_getR4 E rfl, wp_bnd, ra_8 E (by omega), wp_bnd, hMo_isC4 E, wp_br]
theorem e_3 {Q : Int32 → sd_H → Nat × Nat → Prop} (E : mOk n ρ ad) (hk : k ≤ 400) (hz : x 7 k = 3) : wp (fX5_errorOf G (ad 0) (ad 20) (n3 k)) (hMo n ρ ad K v x y) b Q = wp (fX5_newEmpire G (ad 0) (ad 20) (y 8 k)) (hMo n ρ ad K v x y) b Q := by
  unfold fX5_errorOf
  rw [wp_bnd, hMo_getR4 E rfl, wp_bnd, ra_7 E (by omega)]
  rw [hz, if_neg (by decide), if_neg (by decide), if_neg (by decide), if_pos rfl]
  rw [wp_bnd, hMo_getR4 E rfl, wp_bnd, ra_8 E (by omega), wp_bnd, hMo_isC4 E, wp_br]
theorem e_4 {Q : Int32 → sd_H → Nat × Nat → Prop} (E : mOk n ρ ad) (hk : k ≤ 400) (hz : x 7 k = 4) : wp (fX5_errorOf G (ad 0) (ad 20) (n3 k)) (hMo n ρ ad K v x y) b Q = wp (fX5_itsYears G (ad 0) (ad 20) (y 8 k) 1) (hMo n ρ ad K v x y) b Q := by
  unfold fX5_errorOf
  rw [wp_bnd, hMo_getR4 E rfl, wp_bnd, ra_7 E (by omega)]
  rw [hz, if_neg (by decide), if_neg (by decide), if_neg (by decide), if_neg (by decide), if_pos rfl]
  rw [wp_bnd, hMo_getR4 E rfl, wp_bnd, ra_8 E (by omega), wp_bnd, hMo_isC4 E, wp_br]
theorem e_5 {Q : Int32 → sd_H → Nat × Nat → Prop} (E : mOk n ρ ad) (hk : k ≤ 400) (hz : x 7 k = 5) : wp (fX5_errorOf G (ad 0) (ad 20) (n3 k)) (hMo n ρ ad K v x y) b Q = wp (fX5_itsYears G (ad 0) (ad 20) (y 8 k) 0) (hMo n ρ ad K v x y) b Q := by
  unfold fX5_errorOf
  rw [wp_bnd, hMo_getR4 E rfl, wp_bnd, ra_7 E (by omega)]
  rw [hz, if_neg (by decide), if_neg (by decide), if_neg (by decide), if_neg (by decide), if_neg (by decide), if_pos rfl]
  rw [wp_bnd, hMo_getR4 E rfl, wp_bnd, ra_8 E (by omega), wp_bnd, hMo_isC4 E, wp_br]
theorem e_7 {Q : Int32 → sd_H → Nat × Nat → Prop} (E : mOk n ρ ad) (hk : k ≤ 400) (hz : x 7 k = 7) : wp (fX5_errorOf G (ad 0) (ad 20) (n3 k)) (hMo n ρ ad K v x y) b Q = wp (fX5_itsSeat G (ad 0) (ad 20) (n3 k)) (hMo n ρ ad K v x y) b Q := by
  unfold fX5_errorOf
  rw [wp_bnd, hMo_getR4 E rfl, wp_bnd, ra_7 E (by omega)]
  rw [hz, if_neg (by decide), if_neg (by decide), if_neg (by decide), if_neg (by decide), if_neg (by decide), if_neg (by decide), if_neg (by decide), if_pos rfl]
  rw [wp_bnd, hMo_isC4 E, wp_br]
theorem e_8 {Q : Int32 → sd_H → Nat × Nat → Prop} (E : mOk n ρ ad) (hk : k ≤ 400) (hz : x 7 k = 8) : wp (fX5_errorOf G (ad 0) (ad 20) (n3 k)) (hMo n ρ ad K v x y) b Q = wp (fX5_itsStratum G (ad 0) (ad 20) (y 8 k)) (hMo n ρ ad K v x y) b Q := by
  unfold fX5_errorOf
  rw [wp_bnd, hMo_getR4 E rfl, wp_bnd, ra_7 E (by omega)]
  rw [hz, if_neg (by decide), if_neg (by decide), if_neg (by decide), if_neg (by decide), if_neg (by decide), if_neg (by decide), if_neg (by decide), if_neg (by decide), if_pos rfl]
  rw [wp_bnd, hMo_getR4 E rfl, wp_bnd, ra_8 E (by omega), wp_bnd, hMo_isC4 E, wp_br]
theorem e_9 {Q : Int32 → sd_H → Nat × Nat → Prop} (E : mOk n ρ ad) (hk : k ≤ 400) (hz : x 7 k = 9) : wp (fX5_errorOf G (ad 0) (ad 20) (n3 k)) (hMo n ρ ad K v x y) b Q = wp (fX5_itsYear G (ad 0) (ad 20) (y 8 k)) (hMo n ρ ad K v x y) b Q := by
  unfold fX5_errorOf
  rw [wp_bnd, hMo_getR4 E rfl, wp_bnd, ra_7 E (by omega)]
  rw [hz, if_neg (by decide), if_neg (by decide), if_neg (by decide), if_neg (by decide), if_neg (by decide), if_neg (by decide), if_neg (by decide), if_neg (by decide), if_neg (by decide), if_pos rfl]
  rw [wp_bnd, hMo_getR4 E rfl, wp_bnd, ra_8 E (by omega), wp_bnd, hMo_isC4 E, wp_br]
theorem e_10 {Q : Int32 → sd_H → Nat × Nat → Prop} (E : mOk n ρ ad) (hk : k ≤ 400) (hz : x 7 k = 10) : wp (fX5_errorOf G (ad 0) (ad 20) (n3 k)) (hMo n ρ ad K v x y) b Q = wp (fX5_anEmpire G (ad 0) (ad 20) (n3 k)) (hMo n ρ ad K v x y) b Q := by
  unfold fX5_errorOf
  rw [wp_bnd, hMo_getR4 E rfl, wp_bnd, ra_7 E (by omega)]
  rw [hz, if_neg (by decide), if_neg (by decide), if_neg (by decide), if_neg (by decide), if_neg (by decide), if_neg (by decide), if_neg (by decide), if_neg (by decide), if_neg (by decide), if_neg (by decide), if_pos rfl]
  rw [wp_bnd, hMo_isC4 E, wp_br]
theorem e_11 {Q : Int32 → sd_H → Nat × Nat → Prop} (E : mOk n ρ ad) (hk : k ≤ 400) (hz : x 7 k = 11) : wp (fX5_errorOf G (ad 0) (ad 20) (n3 k)) (hMo n ρ ad K v x y) b Q = wp (fX5_newOrder G (ad 0) (ad 20)) (hMo n ρ ad K v x y) b Q := by
  unfold fX5_errorOf
  rw [wp_bnd, hMo_getR4 E rfl, wp_bnd, ra_7 E (by omega)]
  rw [hz, if_neg (by decide), if_neg (by decide), if_neg (by decide), if_neg (by decide), if_neg (by decide), if_neg (by decide), if_neg (by decide), if_neg (by decide), if_neg (by decide), if_neg (by decide), if_neg (by decide), if_pos rfl]
  rw [wp_bnd, hMo_isC4 E, wp_br]
theorem e_12 {Q : Int32 → sd_H → Nat × Nat → Prop} (E : mOk n ρ ad) (hk : k ≤ 400) (hz : x 7 k = 12) : wp (fX5_errorOf G (ad 0) (ad 20) (n3 k)) (hMo n ρ ad K v x y) b Q = wp (fX5_anEmpire G (ad 0) (ad 20) (n3 k)) (hMo n ρ ad K v x y) b Q := by
  unfold fX5_errorOf
  rw [wp_bnd, hMo_getR4 E rfl, wp_bnd, ra_7 E (by omega)]
  rw [hz, if_neg (by decide), if_neg (by decide), if_neg (by decide), if_neg (by decide), if_neg (by decide), if_neg (by decide), if_neg (by decide), if_neg (by decide), if_neg (by decide), if_neg (by decide), if_neg (by decide), if_neg (by decide)]
  rw [wp_bnd, hMo_isC4 E, wp_br]
theorem e_6 {c : Nat} {Q : Int32 → sd_H → Nat × Nat → Prop} (E : mOk n ρ ad) (hk : k ≤ 400) (hz : x 7 k = 6) (h5 : x 5 k = n3 c) (hc : c = 5 ∨ c = 6) : wp (fX5_errorOf G (ad 0) (ad 20) (n3 k)) (hMo n ρ ad K v x y) b Q = wp (fX5_newFind G (ad 0) (ad 20) (bI (decide (c = 5)))) (hMo n ρ ad K v x y) b Q := by
  unfold fX5_errorOf
  rw [wp_bnd, hMo_getR4 E rfl, wp_bnd, ra_7 E (by omega)]
  rw [hz, if_neg (by decide), if_neg (by decide), if_neg (by decide), if_neg (by decide), if_neg (by decide), if_neg (by decide), if_pos rfl, wp_bnd, hMo_getR4 E rfl, wp_bnd, ra_5 E (by omega), h5]
  rcases hc with rfl | rfl
  · rw [if_pos (show n3 5 = 5 from rfl), wp_bnd, hMo_isC4 E, wp_br]
    rfl
  · rw [if_neg (show ¬ n3 6 = 5 by decide), wp_bnd, hMo_isC4 E, wp_br]
    rfl
end ML2
