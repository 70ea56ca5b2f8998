/-! THE PLAIN LAW: the reader's steps with checks -/
section RD2
variable {G : sd_G} {h : sd_H} {b : Nat × Nat} {u : Nat → Nat} {sz n0 tl i d so m rd a c : Nat} {ta tx : Nat → Nat} {w : Int32} {l : List Nat}
theorem c_close {Q : Unit ⊕ Nat → sd_H → Nat × Nat → Prop} (hS : srD G) (wf : wfH G h) (T : TK G u sz n0 tl ta tx h) (hr : h.2 rd = some (aRd tl i (d + 1) w so m)) (hi : i ≤ nT u sz) (hw : wcd l c) (hc : strC G a l) (b1 : 1 ≤ b.1) (b2 : 8 ≤ b.2) (k1 : kdT u sz i = c → Q (.inl ()) (sd_up h rd (aRd tl (i + 1) d w so m)) b) (k2 : kdT u sz i ≠ c → Q (.inr h.1) (sd_pu h (aFt 1 (plT u sz i))) (b.1 - 1, b.2 - 8)) : wp (fX7_close G rd a) h b Q := by
  unfold fX7_close
  rw [wp_bnd, (rd_rd hr).2.2.2.2.2.2, wp_bx]
  refine c_take2 hS wf T hr hi hw hc b1 b2 (fun e => ?_) (fun e => ?_)
  · have u1 := up_at h rd (aRd tl (i + 1) (d + 1) w so m)
    show wp (sd_bnd (sd_getI G 6 2 rd) _) (sd_up h rd (aRd tl (i + 1) (d + 1) w so m)) b Q
    rw [wp_bnd, (rd_rd u1).2.2.1, wp_bnd, wp_put u1 (Nat.le_of_ble_eq_true rfl) rfl rfl, up_up, wp_ret, show n3 (d + 1) - 1 = n3 d from n3_sub (a := d + 1) (b := 1) (by omega)]
    exact k1 e
  · show wp (sd_ret (.inr h.1)) _ _ Q
    rw [wp_ret]
    exact k2 e
theorem c_check {er z : Int32} {j : Nat} {Q : Unit ⊕ Nat → sd_H → Nat × Nat → Prop} (wf : wfH G h) (T : TK G u sz n0 tl ta tx h) (hr : h.2 rd = some (aRd tl i d w so m)) (hj : j ≤ nT u sz) (b1 : 1 ≤ b.1) (b2 : 8 ≤ b.2) (k1 : (w = 0 ∨ z ≠ 0) → Q (.inl ()) h b) (k2 : w ≠ 0 → z = 0 → Q (.inr h.1) (sd_pu h (aFt er (plT u sz j))) (b.1 - 1, b.2 - 8)) : wp (fX7_check G rd er z (ta j)) h b Q := by
  unfold fX7_check
  rw [wp_bnd, (rd_rd hr).2.2.2.1, wp_ite]
  by_cases c1 : w = 0
  · rw [if_pos c1, wp_ret]
    exact k1 (Or.inl c1)
  · rw [if_neg c1, wp_ite]
    by_cases c2 : z = 0
    · rw [if_pos c2, wp_bnd]
      refine wp_new b1 b2 ?_
      have T1 := TK_pu (e := .inr (51, [.null, .null, .null, .null, .int 0, .int 0])) wf T
      rw [wp_bnd, (tk_rd T1 hj).2.2.1, wp_bnd, c_flt rfl, wp_bnd, wp_own (pu_at h _), wp_ite, if_pos rfl, wp_ret]
      exact k2 c1 c2
    · rw [if_neg c2, wp_ret]
      exact k1 (Or.inr c2)
theorem c_num (T : TK G u sz n0 tl ta tx h) (hi : i < nT u sz) (hk : kdT u sz i = 31) (Q : Int32 → sd_H → Nat × Nat → Prop) : wp (fX9_number G (ta i)) h b Q = Q (n3 (nmV (txT u sz i))) h b := by
  refine wp_det ?_ Q
  have H := ((T.2 i (by omega)).2.2 (by omega) (by omega)).1
  have dg : (∀ c, c ∈ txT u sz i → isD c = true) ∧ (txT u sz i).length ≤ 6 := by
    obtain ⟨h1, h2, h3, h4, h5⟩ := tk_lt hi
    rcases tk_cases hi with ⟨k1, k2⟩ | ⟨k1, k2, k3, k4, k5⟩ | ⟨c', k1, k2, k3⟩ | ⟨c', k1, k2, k3⟩
    · refine ⟨k2, ?_⟩
      have cD : isD (u (plT u sz i)) = true := by
        refine k2 _ (List.mem_of_getElem? (i := 0) (txP_at ?_))
        have := enP_gt (u := u) (sz := sz) (p := plT u sz i)
        omega
      have e : (txT u sz i).length = enP u sz (plT u sz i) - plT u sz i := txP_len
      rw [h3] at hk
      unfold knP at hk
      rw [if_pos cD] at hk
      by_cases c : enP u sz (plT u sz i) - plT u sz i ≤ 6
      · omega
      · rw [if_neg c] at hk
        omega
    · have := kwI_lt (txT u sz i)
      omega
    · have := sym_not k1
      omega
    · omega
  obtain ⟨dg, len⟩ := dg
  generalize txT u sz i = l at H dg len ⊢
  have tk : ∀ j, j < l.length → ∀ c, l[j]? = some c → nmV (l.take (j + 1)) = 10 * nmV (l.take j) + (c - 48) ∧ 48 ≤ c := by
    intro j hj c hc
    rw [List.take_add_one, hc]
    have := dg c (List.mem_of_getElem? hc)
    unfold isD at this
    simp only [Bool.and_eq_true, decide_eq_true_eq] at this
    exact ⟨nmV_sn, this.1⟩
  unfold fX9_number
  refine wp_for (F := fun k s => fX9_number_b4 G k s.1 s.2.1 s.2.2) l.length (fun j (_ : Unit) => (ta i, n3 (nmV (l.take j)), n3 j)) (fun j _ h' b' => h' = h ∧ b' = b) ?_ ?_ sd_FU 0 () h b (Nat.zero_le _) (by unfold sd_FU; omega) ⟨rfl, rfl⟩
  · rintro K _ h1 b1 ⟨rfl, rfl⟩
    show wp (fX9_number_b4 G K (ta i) _ (n3 l.length)) _ _ _
    unfold fX9_number_b4
    rw [wp_bnd, (tk_rd T (by omega)).2.1, wp_bnd, strH_isC (strN_H H), wp_bnd, strH_len (strN_H H), wp_ite, if_pos (by rw [n3_le (by omega) (by omega)]; exact Nat.le_refl _), wp_ret, List.take_length]
    exact ⟨rfl, rfl, rfl⟩
  · rintro K j _ h1 b1 hj ⟨rfl, rfl⟩ nx
    show wp (fX9_number_b4 G K (ta i) _ (n3 j)) _ _ _
    unfold fX9_number_b4
    have hx : l[j]? = some l[j] := List.getElem?_eq_getElem hj
    obtain ⟨t1, t2⟩ := tk j hj _ hx
    rw [wp_bnd, (tk_rd T (by omega)).2.1, wp_bnd, strH_isC (strN_H H), wp_bnd, strH_len (strN_H H), wp_ite, if_neg (by rw [n3_le (by omega) (by omega)]; omega), wp_bnd, (tk_rd T (by omega)).2.1, wp_bnd, strH_isC (strN_H H), wp_bnd, strH_chr (strN_H H) hx, wp_bnd, wp_ret, wp_bnd, wp_ret, show (10 : Int32) * n3 (nmV (l.take j)) = n3 (10 * nmV (l.take j)) from n3_mul 10 _, n3_add, show n3 (10 * nmV (l.take j) + l[j]) - 48 = n3 (10 * nmV (l.take j) + l[j] - 48) from n3_sub (a := 10 * nmV (l.take j) + l[j]) (b := 48) (by omega), show n3 j + 1 = n3 (j + 1) from n3_add j 1, show 10 * nmV (l.take j) + l[j] - 48 = nmV (l.take (j + 1)) by omega]
    exact nx () _ _ ⟨rfl, rfl⟩
end RD2
