/-! THE PLAIN LAW: the component's mean year -/
theorem wp_dn {s m : Int32} {h : sd_H} {b : Nat × Nat} {Q : Unit → sd_H → Nat × Nat → Prop} (hm : m ≠ 0) : wp (sd_dn (FP.i2d s) (FP.i2d m)) h b Q = Q () h b := wp_eq (by unfold sd_dn; rw [if_pos (dn_ok hm)])
def mnS (x : Nat → Nat → Int32) (t : TT) (f : Nat) (a : Int32 × Int32) : Int32 × Int32 := if t.2.2.2.2 f = 2 ∧ x 27 f ≠ 0 then (a.1 + x 29 f, a.2 + 1) else a
def mnE (a : Int32 × Int32) : UInt64 := if a.2 = 0 then FP.dconst0 else FP.ddiv (FP.i2d a.1) (FP.i2d a.2)
def mnY (q : Nat → Nat) (x : Nat → Nat → Int32) (t : TT) : UInt64 := mnE (itr (mnS x t) (q 26) 0 (0, 0))
theorem n3_suc (i : Nat) : n3 i + 1 = n3 (i + 1) := by rw [show (1 : Int32) = n3 1 from rfl, n3_add]
section CME
variable {t : TT} {b : Nat × Nat} {G : sd_G} {cx tp bt s0 E1 : Nat} {B : Nat → Nat} {Z : Nat → Prop} {q : Nat → Nat} {x : Nat → Nat → Int32} {ea : Int32} {sz : Nat} {bs : Nat → Int32} {h : sd_H}
theorem c_mean {Q : UInt64 → sd_H → Nat × Nat → Prop} (C : CI G cx tp bt s0 E1 B Z q x ea sz bs h t) (kk : Q (mnY q x t) h b) : wp (fX1_meanYear G cx) h b Q := by
  obtain ⟨hP, hT, -, -⟩ := C_P C
  have q26 := hP.2.2.2.1
  obtain ⟨r1, r2, r3, r4, r5, r6⟩ := c_rd C
  obtain ⟨o0, o1, o8, o9, o10, o11, o12, o6, oe⟩ := c_so C
  obtain ⟨f3, f4, l1, l2, l3, l4, l5, l6, l7⟩ := c_ls C
  unfold fX1_meanYear fX3_meanYear
  rw [wp_bnd, r4, wp_bnd, o12, wp_bnd]
  refine wp_for (q 26) (fun i (a : Int32 × Int32) => (s0, a.1, a.2, n3 i)) (fun i a h' b' => h' = h ∧ b' = b ∧ itr (mnS x t) (q 26 - i) i a = itr (mnS x t) (q 26) 0 (0, 0)) ?_ ?_ sd_FU 0 (0, 0) h b (Nat.zero_le _) (by unfold sd_FU; omega) ⟨rfl, rfl, rfl⟩
  · rintro k a h' b' ⟨rfl, rfl, i3⟩
    show wp (fX3_meanYear_b6 G k s0 a.1 a.2 (n3 (q 26))) h' b' _
    rw [itr_en] at i3
    unfold mnY at kk
    rw [← i3] at kk
    unfold mnE at kk
    unfold fX3_meanYear_b6
    rw [wp_bnd, l4, wp_bnd, l5, wp_bnd, l6, wp_ite, if_pos (by rw [n3_le (by omega) (by omega)]; exact Nat.le_refl _), wp_ite]
    by_cases c : a.2 = 0
    · rw [if_pos c] at kk ⊢
      rw [wp_ret, wp_ret]
      exact kk
    · rw [if_neg c] at kk ⊢
      rw [wp_bnd, wp_dn c, wp_ret, wp_ret]
      exact kk
  · rintro k i a h' b' hi ⟨rfl, rfl, i3⟩ nx
    show wp (fX3_meanYear_b6 G k s0 a.1 a.2 (n3 i)) h' b' _
    rw [itr_st _ hi] at i3
    have fz := (hT.2.2.2.2.2.1 i).1
    have hn : ¬ n3 (q 26) ≤ n3 i := by
      rw [n3_le (by omega) (by omega)]
      omega
    have nx := nx _ _ _ ⟨rfl, rfl, i3⟩
    unfold mnS at nx
    obtain ⟨g, g1, g2, g3, g4, g5⟩ := l7 i hi
    unfold fX3_meanYear_b6
    rw [wp_bnd, l4, wp_bnd, l5, wp_bnd, l6, wp_ite, if_neg hn, wp_bnd, o6, wp_bnd, oe i _ _ (by omega), wp_ite]
    by_cases c : t.2.2.2.2 i = 2
    · rw [if_pos (by rw [cnv_is1 fz]; exact c), wp_bnd, l4, wp_bnd, l5, wp_bnd, g1, wp_bnd, g2, wp_bnd, g3, wp_ite]
      by_cases c2 : x 27 i = 0
      · rw [if_pos c2, wp_bnd, wp_ret, n3_suc]
        rw [if_neg (fun h => h.2 c2)] at nx
        exact nx
      · rw [if_neg c2, wp_bnd, l4, wp_bnd, l5, wp_bnd, g1, wp_bnd, g2, wp_bnd, g4, wp_bnd, wp_ret, wp_bnd, wp_ret, wp_bnd, wp_ret, n3_suc]
        rw [if_pos ⟨c, c2⟩] at nx
        exact nx
    · rw [if_neg (by rw [cnv_is1 fz]; exact c), wp_bnd, wp_ret, n3_suc]
      rw [if_neg (fun h => c h.1)] at nx
      exact nx
end CME
