/-! THE PLAIN LAW: the component's digest -/
/-- what the first ten numbers are -/
def dgA (q : Nat → Nat) (x : Nat → Nat → Int32) (t : TT) : Nat → Int32 := upd (upd (upd (upd (upd (upd (upd (upd (upd (upd (fun _ => 0) 0 (n3 (q 20))) 1 (n3 (q 21))) 2 (n3 (q 26))) 3 (t.1 0)) 4 (t.1 1)) 5 (t.1 2)) 6 (t.1 3)) 7 (cnt (fndB t 1) (q 26))) 8 (cnt (fndB t 2) (q 26))) 9 (bst q x t)
def dg0 (g : Nat → Int32) (i : Nat) (d : Int64) : Int64 := d * 31 + (g i).toInt64
def dgB (x : Nat → Nat → Int32) (t : TT) (s : Nat) (d : Int64) : Int64 := (((d * 31 + (n3 (t.2.1 s)).toInt64) * 31 + (bI (isP t s)).toInt64) * 31 + (lft x t s).toInt64) * 31 + (if t.2.1 s = 0 then (-1 : Int32) else n3 (topC t s % 10)).toInt64
def dgC (t : TT) (f : Nat) (d : Int64) : Int64 := (d * 31 + (if t.2.2.2.2 f = 0 then (0 : Int32) else 1).toInt64) * 31 + (if t.2.2.2.2 f = 2 then (1 : Int32) else 0).toInt64
def dgD (q : Nat → Nat) (x : Nat → Nat → Int32) (t : TT) (k : Nat) (d : Int64) : Int64 := (d * 31 + (nbf (q 26) x t (n3 k)).toInt64) * 31 + (bI (mixB (q 22) (q 26) x t (n3 k))).toInt64
def dgs3 (q : Nat → Nat) (x : Nat → Nat → Int32) (t : TT) (d : Int64) : Int64 := itr (dgD q x t) (q 21) 0 d
def dgs2 (q : Nat → Nat) (x : Nat → Nat → Int32) (t : TT) (d : Int64) : Int64 := dgs3 q x t (itr (dgC t) (q 26) 0 d)
def dgs1 (q : Nat → Nat) (x : Nat → Nat → Int32) (t : TT) (d : Int64) : Int64 := dgs2 q x t (itr (dgB x t) (q 20) 0 d)
def dgs (q : Nat → Nat) (x : Nat → Nat → Int32) (t : TT) : Int64 := dgs1 q x t (itr (dg0 (dgA q x t)) 10 0 1021)
theorem bI_01 (c : Bool) : bI c = 0 ∨ bI c = 1 := by cases c <;> simp [bI]
section CDG
variable {t : TT} {b : Nat × Nat} {G : sd_G} {cx tp bt s0 E1 : Nat} {B : Nat → Nat} {Z : Nat → Prop} {q : Nat → Nat} {x : Nat → Nat → Int32} {ea : Int32} {sz : Nat} {bs : Nat → Int32} {h h' : sd_H}
theorem c_one {c : Bool} {Q : Int32 → sd_H → Nat × Nat → Prop} : wp (fX1_one G (bI c)) h b Q = Q (bI c) h b := by
  unfold fX1_one
  cases c
  · rw [if_pos (show bI false = 0 from rfl), wp_ret]
    rfl
  · rw [if_neg (show ¬ bI true = 0 by decide), wp_ret]
    rfl
theorem CI_E (C : CI G cx tp bt s0 E1 B Z q x ea sz bs h t) : E1 < h.1 ∧ B 1 < h.1 := by
  obtain ⟨w, -, h3, hd, -, -, c, n, ρ, K, ad, F, mc, em, cs, R, rfl, A, O, H, D, rfl, rfl⟩ := C
  obtain ⟨e, h0, -⟩ := H.2.1
  exact ⟨A.1.2.2 _ _ (A.1.1 3 (Or.inr (Or.inl rfl))), (w.1 _ _ h0).2⟩
theorem CI_up {o : Nat} {e e' : sd_E} (C : CI G cx tp bt s0 E1 B Z q x ea sz bs h t) (ho : h.2 o = some e) (hm : isM e = true) (n1 : o ≠ E1) (n2 : o ≠ B 1) : CI G cx tp bt s0 E1 B Z q x ea sz bs (sd_up h o e') t := by
  refine CI_keep C (wfH_up C.1 ho) (Nat.le_refl _) (fun a ha hk => up_ne ?_)
  rintro rfl
  rcases hk e ho with c | c | c
  · rw [hm] at c
    cases c
  · exact n1 c
  · exact n2 c
theorem fr_up {o : Nat} {e' : sd_E} {h0 : sd_H} {E1 E2 : Nat} (w : wfH G h0) (f : fr h0 h E1 E2) (ho : h0.1 ≤ o) : fr h0 (sd_up h o e') E1 E2 := by
  refine ⟨f.1, fun a e ha hm n1 n2 => ?_⟩
  have := (w.1 _ _ ha).2
  rw [up_ne (by omega)]
  exact f.2 a e ha hm n1 n2
/-- an array of our own beside the component -/
def DG (G : sd_G) (cx tp bt s0 E1 : Nat) (B : Nat → Nat) (Z : Nat → Prop) (q : Nat → Nat) (x : Nat → Nat → Int32) (ea : Int32) (sz : Nat) (bs : Nat → Int32) (h0 h : sd_H) (t : TT) (o : Nat) (g : Nat → Int32) : Prop := CI G cx tp bt s0 E1 B Z q x ea sz bs h t ∧ fr h0 h E1 (B 1) ∧ h.2 o = some (.inl (0, 10, .inl g)) ∧ wfH G h0 ∧ h0.1 ≤ o ∧ E1 < h0.1 ∧ B 1 < h0.1
theorem DG_st {o i : Nat} {g : Nat → Int32} {h0 : sd_H} (D : DG G cx tp bt s0 E1 B Z q x ea sz bs h0 h t o g) (hi : i < 10) (r : Int32) : ∃ h2, DG G cx tp bt s0 E1 B Z q x ea sz bs h0 h2 t o (upd g i r) ∧ ∀ b (Q : Unit → sd_H → Nat × Nat → Prop), wp (sd_astI 0 o (n3 i) r) h b Q = Q () h2 b := by
  obtain ⟨C, f, ho, w, l, l1, l2⟩ := D
  refine ⟨_, ⟨CI_up C ho rfl (by omega) (by omega), fr_up w f l, up_at _ _ _, w, l, l1, l2⟩, fun b Q => ?_⟩
  rw [wp_astI ho (n3_ix hi (by omega)), n3_nn (by omega)]
  rfl
theorem DG_go {o : Nat} {g : Nat → Int32} {h0 h2 : sd_H} (D : DG G cx tp bt s0 E1 B Z q x ea sz bs h0 h t o g) (C : CI G cx tp bt s0 E1 B Z q x ea sz bs h2 t) (f : fr h h2 E1 (B 1)) : DG G cx tp bt s0 E1 B Z q x ea sz bs h0 h2 t o g := by
  obtain ⟨-, f0, ho, w, l, l1, l2⟩ := D
  exact ⟨C, f0.trans f, f.2 _ _ ho rfl (by omega) (by omega), w, l, l1, l2⟩
theorem c_dg3 {Q : Int64 → sd_H → Nat × Nat → Prop} {d : Int64} (C : CI G cx tp bt s0 E1 B Z q x ea sz bs h t) (kk : Q (dgs3 q x t d) h b) : wp (sd_loop (fun k s => fX1_digest_b321 G k s.1 s.2.1 s.2.2) sd_FU (cx, d, 0)) h b Q := by
  obtain ⟨hP, hT, -, -⟩ := C_P C
  have q21 := hP.2.1.2
  obtain ⟨r1, r2, r3, r4, r5, r6⟩ := c_rd C
  obtain ⟨o0, o1, o8, o9, o10, o11, o12, o6, oe⟩ := c_so C
  refine wp_for (q 21) (fun i (a : Int64) => (cx, a, n3 i)) (fun i a h' b' => h' = h ∧ b' = b ∧ itr (dgD q x t) (q 21 - i) i a = dgs3 q x t d) ?_ ?_ sd_FU 0 d h b (Nat.zero_le _) (by unfold sd_FU; omega) ⟨rfl, rfl, rfl⟩
  · rintro k a h' b' ⟨rfl, rfl, i3⟩
    show wp (fX1_digest_b321 G k cx a (n3 (q 21))) h' b' Q
    rw [itr_en] at i3
    unfold fX1_digest_b321
    rw [wp_bnd, r4, wp_bnd, o0, wp_ite, if_pos (by rw [n3_le (by omega) (by omega)]; exact Nat.le_refl _), wp_ret, i3]
    exact kk
  · rintro k i a h' b' hi ⟨rfl, rfl, i3⟩ nx
    show wp (fX1_digest_b321 G k cx a (n3 i)) h' b' Q
    rw [itr_st _ hi] at i3
    have hn : ¬ n3 (q 21) ≤ n3 i := by
      rw [n3_le (by omega) (by omega)]
      omega
    have nx := nx _ _ _ ⟨rfl, rfl, i3⟩
    unfold fX1_digest_b321
    rw [wp_bnd, r4, wp_bnd, o0, wp_ite, if_neg hn, wp_bnd, r4, wp_bnd, o12, wp_bnd, c_nbf C, wp_bnd, wp_ret, wp_bnd, r4, wp_bnd, o12, wp_bnd, c_mixed C, wp_bnd, c_one, wp_bnd, wp_ret, wp_bnd, wp_ret, n3_suc]
    exact nx
theorem c_dg2 {Q : Int64 → sd_H → Nat × Nat → Prop} {d : Int64} (C : CI G cx tp bt s0 E1 B Z q x ea sz bs h t) (kk : Q (dgs2 q x t d) h b) : wp (sd_loop (fun k s => fX1_digest_b238 G k s.1 s.2.1 s.2.2) sd_FU (cx, d, 0)) h b Q := by
  obtain ⟨hP, hT, -, -⟩ := C_P C
  have q26 := hP.2.2.2.1
  obtain ⟨r1, r2, r3, r4, r5, r6⟩ := c_rd C
  obtain ⟨o0, o1, o8, o9, o10, o11, o12, o6, oe⟩ := c_so C
  obtain ⟨f3, f4, l1, l2, l3, l4, l5, l6, l7⟩ := c_ls C
  refine wp_for (q 26) (fun i (a : Int64) => (cx, a, n3 i)) (fun i a h' b' => h' = h ∧ b' = b ∧ dgs3 q x t (itr (dgC t) (q 26 - i) i a) = dgs2 q x t d) ?_ ?_ sd_FU 0 d h b (Nat.zero_le _) (by unfold sd_FU; omega) ⟨rfl, rfl, rfl⟩
  · rintro k a h' b' ⟨rfl, rfl, i3⟩
    show wp (fX1_digest_b238 G k cx a (n3 (q 26))) h' b' Q
    rw [itr_en] at i3
    rw [← i3] at kk
    unfold fX1_digest_b238
    rw [wp_bnd, r4, wp_bnd, l4, wp_bnd, l5, wp_bnd, l6, wp_ite, if_pos (by rw [n3_le (by omega) (by omega)]; exact Nat.le_refl _)]
    exact c_dg3 C kk
  · rintro k i a h' b' hi ⟨rfl, rfl, i3⟩ nx
    show wp (fX1_digest_b238 G k cx a (n3 i)) h' b' Q
    rw [itr_st _ hi] at i3
    have fz := (hT.2.2.2.2.2.1 i).1
    have hn : ¬ n3 (q 26) ≤ n3 i := by
      rw [n3_le (by omega) (by omega)]
      omega
    have nx := nx _ _ _ ⟨rfl, rfl, i3⟩
    unfold dgC at nx
    unfold fX1_digest_b238
    rw [wp_bnd, r4, wp_bnd, l4, wp_bnd, l5, wp_bnd, l6, wp_ite, if_neg hn, wp_bnd, r4, wp_bnd, o6, wp_bnd, oe i _ _ (by omega), wp_ite]
    have e0 : ∀ y, y = 0 ∨ y = 1 → ∀ d (Q : Int64 → sd_H → Nat × Nat → Prop), wp (fX1_digest_b276 G k cx (n3 i) y d) h' b' Q = wp (k (cx, (d + y.toInt64) * 31 + (if t.2.2.2.2 i = 2 then (1 : Int32) else 0).toInt64, n3 (i + 1))) h' b' Q := by
      intro y hy d Q
      have ey : fX1_one G y = sd_ret y := by
        unfold fX1_one
        rcases hy with rfl | rfl
        · rfl
        · rfl
      unfold fX1_digest_b276
      rw [ey, wp_bnd, wp_ret, wp_bnd, wp_ret, wp_bnd, r4, wp_bnd, o6, wp_bnd, oe i _ _ (by omega), wp_ite]
      unfold fX1_digest_b306
      by_cases c : t.2.2.2.2 i = 2
      · rw [if_pos (by rw [cnv_is1 fz]; exact c), if_pos c, wp_bnd, show fX1_one G 1 = sd_ret 1 from rfl, wp_ret, wp_bnd, wp_ret, wp_bnd, wp_ret, n3_suc]
      · rw [if_neg (by rw [cnv_is1 fz]; exact c), if_neg c, wp_bnd, show fX1_one G 0 = sd_ret 0 from rfl, wp_ret, wp_bnd, wp_ret, wp_bnd, wp_ret, n3_suc]
    rw [e0 0 (Or.inl rfl), e0 1 (Or.inr rfl)]
    by_cases c : t.2.2.2.2 i = 0
    · rw [if_pos c] at nx
      rw [if_pos (by rw [cnv_0 fz]; exact c)]
      exact nx
    · rw [if_neg c] at nx
      rw [if_neg (by rw [cnv_0 fz]; exact c)]
      exact nx
theorem c_dg1 {Q : Int64 → sd_H → Nat × Nat → Prop} {d : Int64} (C : CI G cx tp bt s0 E1 B Z q x ea sz bs h t) (b1 : 8 ≤ b.1) (b2 : 32 ≤ b.2) (kk : ∀ h' b', CI G cx tp bt s0 E1 B Z q x ea sz bs h' t → fr h h' E1 (B 1) → b.1 ≤ b'.1 + 8 → b.2 ≤ b'.2 + 32 → Q (dgs1 q x t d) h' b') : wp (sd_loop (fun k s => fX1_digest_b127 G k s.1 s.2.1 s.2.2) sd_FU (cx, d, 0)) h b Q := by
  obtain ⟨hP, hT, -, -⟩ := C_P C
  have q20 := hP.1.2
  refine wp_for (q 20) (fun i (a : Int64) => (cx, a, n3 i)) (fun i a h' b' => CI G cx tp bt s0 E1 B Z q x ea sz bs h' t ∧ fr h h' E1 (B 1) ∧ b.1 ≤ b'.1 + i ∧ b.2 ≤ b'.2 + 4 * i ∧ dgs2 q x t (itr (dgB x t) (q 20 - i) i a) = dgs1 q x t d) ?_ ?_ sd_FU 0 d h b (Nat.zero_le _) (by unfold sd_FU; omega) ⟨C, fr.refl, by omega, by omega, rfl⟩
  · rintro k a h' b' ⟨C', f', i1, i2, i3⟩
    obtain ⟨r1, r2, r3, r4, r5, r6⟩ := c_rd C'
    obtain ⟨o0, o1, o8, o9, o10, o11, o12, o6, oe⟩ := c_so C'
    show wp (fX1_digest_b127 G k cx a (n3 (q 20))) h' b' Q
    rw [itr_en] at i3
    rw [← i3] at kk
    unfold fX1_digest_b127
    rw [wp_bnd, r4, wp_bnd, o1, wp_ite, if_pos (by rw [n3_le (by omega) (by omega)]; exact Nat.le_refl _)]
    exact c_dg2 C' (kk _ _ C' f' (by omega) (by omega))
  · rintro k i a h' b' hi ⟨C', f', i1, i2, i3⟩ nx
    obtain ⟨r1, r2, r3, r4, r5, r6⟩ := c_rd C'
    obtain ⟨o0, o1, o8, o9, o10, o11, o12, o6, oe⟩ := c_so C'
    show wp (fX1_digest_b127 G k cx a (n3 i)) h' b' Q
    rw [itr_st _ hi] at i3
    have h10 := hT.2.2.1 i hi
    have hn : ¬ n3 (q 20) ≤ n3 i := by
      rw [n3_le (by omega) (by omega)]
      omega
    unfold fX1_digest_b127
    rw [wp_bnd, r4, wp_bnd, o1, wp_ite, if_neg hn, wp_bnd, r4, wp_bnd, o12, wp_bnd, c_height C' hi, wp_bnd, wp_ret, wp_bnd, r4, wp_bnd, o12, wp_bnd, c_isP C', wp_bnd, c_one, wp_bnd, wp_ret, wp_bnd, r4, wp_bnd, o12, wp_bnd]
    refine c_left C' hi (by omega) (by omega) (fun h'' C'' f'' => ?_)
    obtain ⟨r1, r2, r3, r4, r5, r6⟩ := c_rd C''
    obtain ⟨o0, o1, o8, o9, o10, o11, o12, o6, oe⟩ := c_so C''
    have nx := nx _ h'' (b'.1 - 1, b'.2 - 4) ⟨C'', f'.trans f'', by simp only; omega, by simp only; omega, i3⟩
    unfold dgB lft at nx
    rw [wp_bnd, wp_ret, wp_bnd, r4, wp_bnd, o12, wp_bnd, c_height C'' hi, wp_ite]
    by_cases c0 : t.2.1 i = 0
    · rw [if_pos (by rw [c0]; rfl), wp_bnd, wp_ret, wp_bnd, wp_ret, n3_suc]
      rw [if_pos c0] at nx
      exact nx
    · have e0 : ¬ n3 (t.2.1 i) = 0 := by
        rw [show (0 : Int32) = n3 0 from rfl, n3_eq (by omega) (by omega)]
        exact c0
      obtain ⟨a0, g1, g2, g3, g4⟩ := c_top C'' hi (by omega)
      rw [if_neg e0, wp_bnd, r4, wp_bnd, o12, wp_bnd, g1, wp_bnd, g2, wp_bnd, wp_ret, wp_bnd, wp_ret, n3_suc]
      rw [if_neg c0] at nx
      exact nx
theorem a_digest (C : CI G cx tp bt s0 E1 B Z q x ea sz bs h t) : CO G cx tp bt s0 E1 B Z q x ea sz bs (fX1_digest G cx) h t (fun _ r => r = dgs q x t) := by
  intro b Q b1 b2 kk
  obtain ⟨l1, l2⟩ := CI_E C
  unfold fX1_digest
  rw [wp_bnd]
  refine wp_newI (n := 10) (by omega) (by omega) (by omega) ?_
  have D : DG G cx tp bt s0 E1 B Z q x ea sz bs h (sd_pu h (.inl (0, 10, .inl fun _ => 0))) t h.1 (fun _ => 0) := ⟨(CI_pu C).1, (CI_pu C).2, pu_at _ _, C.1, Nat.le_refl _, l1, l2⟩
  obtain ⟨h0, D0, e0⟩ := DG_st D (i := 0) (by omega) (n3 (q 20))
  rw [wp_bnd, (c_rd D.1).1, wp_bnd, a_seats D.1, wp_bnd, ast_lit _ _ 0, e0]
  obtain ⟨h1, D1, e1⟩ := DG_st D0 (i := 1) (by omega) (n3 (q 21))
  rw [wp_bnd, (c_rd D0.1).1, wp_bnd, a_strata D0.1, wp_bnd, ast_lit _ _ 1, e1]
  obtain ⟨h2, D2, e2⟩ := DG_st D1 (i := 2) (by omega) (n3 (q 26))
  rw [wp_bnd, (c_rd D1.1).1, wp_bnd, a_finds D1.1, wp_bnd, ast_lit _ _ 2, e2]
  obtain ⟨h3, D3, e3⟩ := DG_st D2 (i := 3) (by omega) (t.1 0)
  rw [wp_bnd, (c_rd D2.1).1, wp_bnd, a_days D2.1, wp_bnd, ast_lit _ _ 3, e3]
  obtain ⟨h4, D4, e4⟩ := DG_st D3 (i := 4) (by omega) (t.1 1)
  rw [wp_bnd, (c_rd D3.1).1, wp_bnd, a_ordersCarriedOut D3.1, wp_bnd, ast_lit _ _ 4, e4]
  obtain ⟨h5, D5, e5⟩ := DG_st D4 (i := 5) (by omega) (t.1 2)
  rw [wp_bnd, (c_rd D4.1).1, wp_bnd, a_cushionsDug D4.1, wp_bnd, ast_lit _ _ 5, e5]
  obtain ⟨h6, D6, e6⟩ := DG_st D5 (i := 6) (by omega) (t.1 3)
  rw [wp_bnd, (c_rd D5.1).1, wp_bnd, a_slides D5.1, wp_bnd, ast_lit _ _ 6, e6]
  obtain ⟨h7, D7, e7⟩ := DG_st D6 (i := 7) (by omega) (cnt (fndB t 1) (q 26))
  rw [wp_bnd, (c_rd D6.1).1, wp_bnd, a_found D6.1, wp_bnd, ast_lit _ _ 7, e7]
  obtain ⟨h8, D8, e8⟩ := DG_st D7 (i := 8) (by omega) (cnt (fndB t 2) (q 26))
  rw [wp_bnd, (c_rd D7.1).1, wp_bnd, a_sureFinds D7.1, wp_bnd, ast_lit _ _ 8, e8]
  rw [wp_bnd, (c_rd D8.1).1, wp_bnd]
  refine c_best D8.1 (by simp only; omega) (by simp only; omega) (fun h9 b9 C9 f9 y1 y2 => ?_)
  simp only at y1 y2
  obtain ⟨h10, D10, e10⟩ := DG_st (DG_go D8 C9 f9) (i := 9) (by omega) (bst q x t)
  rw [wp_bnd, ast_lit _ _ 9, e10, wp_bnd, wp_alen (x := (0, 10, .inl (dgA q x t))) (sd_look_new D10.2.2.1)]
  refine wp_for 10 (fun i (a : Int64) => (cx, a, h.1, n3 10, n3 i)) (fun i a h' b' => h' = h10 ∧ b' = b9 ∧ dgs1 q x t (itr (dg0 (dgA q x t)) (10 - i) i a) = dgs q x t) ?_ ?_ sd_FU 0 1021 h10 b9 (Nat.zero_le _) (by unfold sd_FU; omega) ⟨rfl, rfl, rfl⟩
  · rintro k a h' b' ⟨rfl, rfl, i3⟩
    show wp (fX1_digest_b94 G k cx a h.1 (n3 10) (n3 10)) h' b' Q
    unfold fX1_digest_b94
    rw [wp_ite, if_pos (by decide)]
    rw [show 10 - 10 = 0 from rfl] at i3
    refine c_dg1 D10.1 (by omega) (by omega) (fun h'' b'' C'' f'' z1 z2 => ?_)
    exact kk _ _ _ C'' (D10.2.1.trans f'') (by omega) (by omega) i3
  · rintro k i a h' b' hi ⟨rfl, rfl, i3⟩ nx
    show wp (fX1_digest_b94 G k cx a h.1 (n3 10) (n3 i)) h' b' Q
    rw [itr_st _ hi] at i3
    have nx := nx _ _ _ ⟨rfl, rfl, i3⟩
    unfold dg0 at nx
    have hn : ¬ n3 10 ≤ n3 i := by
      rw [n3_le (by omega) (by omega)]
      omega
    unfold fX1_digest_b94
    rw [wp_ite, if_neg hn, wp_bnd, wp_aldI (sd_look_new D10.2.2.1) (n3_ix hi (by omega)), n3_nn (by omega), wp_bnd, wp_ret, wp_bnd, wp_ret, n3_suc]
    exact nx
end CDG
