/-! THE PLAIN LAW: what the model answers: reads. Printed by gen/mk_B40.py -/
section MAP
variable {n : Nat} {ρ : Nat → Option Nat} {ad : Nat → Nat} {K : Nat → Option sd_E} {v : Nat → Int32} {x : Nat → Nat → Int32} {y : Nat → Nat → Int64} {G : sd_G} {t : TT} {b : Nat × Nat} {h : sd_H} {q : Nat → Nat} {κ g : Nat → Int32} {ea th : Int32} {sz : Nat}
theorem o_errorAt (M : MI ρ ad q x ea sz th h t) : MO G ρ ad q x ea sz (fX5_errorAt G (ad 0)) h t 0 (ea) := by
  obtain ⟨n, K, v, y, κ, g, rfl, E, hp, hv, hP, hO, ok, h0, h2, h3⟩ := M
  have hv' : okV q (upd v 0 0) := hv
  have q8 := hP.1.2
  have q10 := hP.2.1.2
  have q6 := hP.2.2.1
  have q24 := hP.2.2.2.1
  refine MO_mk E hp hv hP hO ok h2 h3 (fun b Q kk => ?_)
  unfold fX5_errorAt
  simp (disch := omega) only [↓wp_bnd, ↓wp_ret, ↓wp_ite, ↓reduceIte, ↓mFl E, ↓mPu E, m_ok E, h3]
  exact kk κ g
theorem o_seats (M : MI ρ ad q x ea sz th h t) : MO G ρ ad q x ea sz (fX5_seats G (ad 0)) h t 0 (n3 (q 20)) := by
  obtain ⟨n, K, v, y, κ, g, rfl, E, hp, hv, hP, hO, ok, h0, h2, h3⟩ := M
  have hv' : okV q (upd v 0 0) := hv
  have q8 := hP.1.2
  have q10 := hP.2.1.2
  have q6 := hP.2.2.1
  have q24 := hP.2.2.2.1
  refine MO_mk E hp hv hP hO ok h2 h3 (fun b Q kk => ?_)
  unfold fX5_seats
  simp (disch := omega) only [↓wp_bnd, ↓wp_ret, ↓wp_ite, ↓reduceIte, ↓mFl E, ↓mPu E, m_ok E, hp, hv.1]
  exact kk κ g
theorem o_strata (M : MI ρ ad q x ea sz th h t) : MO G ρ ad q x ea sz (fX5_strata G (ad 0)) h t 0 (n3 (q 21)) := by
  obtain ⟨n, K, v, y, κ, g, rfl, E, hp, hv, hP, hO, ok, h0, h2, h3⟩ := M
  have hv' : okV q (upd v 0 0) := hv
  have q8 := hP.1.2
  have q10 := hP.2.1.2
  have q6 := hP.2.2.1
  have q24 := hP.2.2.2.1
  refine MO_mk E hp hv hP hO ok h2 h3 (fun b Q kk => ?_)
  unfold fX5_strata
  simp (disch := omega) only [↓wp_bnd, ↓wp_ret, ↓wp_ite, ↓reduceIte, ↓mFl E, ↓mPu E, m_ok E, hp, hv.2.1]
  exact kk κ g
theorem o_finds (M : MI ρ ad q x ea sz th h t) : MO G ρ ad q x ea sz (fX5_finds G (ad 0)) h t 0 (n3 (q 26)) := by
  obtain ⟨n, K, v, y, κ, g, rfl, E, hp, hv, hP, hO, ok, h0, h2, h3⟩ := M
  have hv' : okV q (upd v 0 0) := hv
  have q8 := hP.1.2
  have q10 := hP.2.1.2
  have q6 := hP.2.2.1
  have q24 := hP.2.2.2.1
  refine MO_mk E hp hv hP hO ok h2 h3 (fun b Q kk => ?_)
  unfold fX5_finds
  simp (disch := omega) only [↓wp_bnd, ↓wp_ret, ↓wp_ite, ↓reduceIte, ↓mFl E, ↓mPu E, m_ok E, hp, hv.2.2.2.1]
  exact kk κ g
theorem o_days (M : MI ρ ad q x ea sz th h t) : MO G ρ ad q x ea sz (fX5_days G (ad 0)) h t 0 (t.1 0) := by
  obtain ⟨n, K, v, y, κ, g, rfl, E, hp, hv, hP, hO, ok, h0, h2, h3⟩ := M
  have hv' : okV q (upd v 0 0) := hv
  have q8 := hP.1.2
  have q10 := hP.2.1.2
  have q6 := hP.2.2.1
  have q24 := hP.2.2.2.1
  refine MO_mk E hp hv hP hO ok h2 h3 (fun b Q kk => ?_)
  unfold fX5_days
  simp (disch := omega) only [↓wp_bnd, ↓wp_ret, ↓wp_ite, ↓reduceIte, ↓mFl E, ↓mPu E, m_ok E, ↓mAr E, mAr E, ↓mAs E, mAs E, ald_lit, sxs, enc_nu]
  exact kk κ g
theorem o_ordersCarriedOut (M : MI ρ ad q x ea sz th h t) : MO G ρ ad q x ea sz (fX5_ordersCarriedOut G (ad 0)) h t 0 (t.1 1) := by
  obtain ⟨n, K, v, y, κ, g, rfl, E, hp, hv, hP, hO, ok, h0, h2, h3⟩ := M
  have hv' : okV q (upd v 0 0) := hv
  have q8 := hP.1.2
  have q10 := hP.2.1.2
  have q6 := hP.2.2.1
  have q24 := hP.2.2.2.1
  refine MO_mk E hp hv hP hO ok h2 h3 (fun b Q kk => ?_)
  unfold fX5_ordersCarriedOut
  simp (disch := omega) only [↓wp_bnd, ↓wp_ret, ↓wp_ite, ↓reduceIte, ↓mFl E, ↓mPu E, m_ok E, ↓mAr E, mAr E, ↓mAs E, mAs E, ald_lit, sxs, enc_nu]
  exact kk κ g
theorem o_cushionsDug (M : MI ρ ad q x ea sz th h t) : MO G ρ ad q x ea sz (fX5_cushionsDug G (ad 0)) h t 0 (t.1 2) := by
  obtain ⟨n, K, v, y, κ, g, rfl, E, hp, hv, hP, hO, ok, h0, h2, h3⟩ := M
  have hv' : okV q (upd v 0 0) := hv
  have q8 := hP.1.2
  have q10 := hP.2.1.2
  have q6 := hP.2.2.1
  have q24 := hP.2.2.2.1
  refine MO_mk E hp hv hP hO ok h2 h3 (fun b Q kk => ?_)
  unfold fX5_cushionsDug
  simp (disch := omega) only [↓wp_bnd, ↓wp_ret, ↓wp_ite, ↓reduceIte, ↓mFl E, ↓mPu E, m_ok E, ↓mAr E, mAr E, ↓mAs E, mAs E, ald_lit, sxs, enc_nu]
  exact kk κ g
theorem o_slides (M : MI ρ ad q x ea sz th h t) : MO G ρ ad q x ea sz (fX5_slides G (ad 0)) h t 0 (t.1 3) := by
  obtain ⟨n, K, v, y, κ, g, rfl, E, hp, hv, hP, hO, ok, h0, h2, h3⟩ := M
  have hv' : okV q (upd v 0 0) := hv
  have q8 := hP.1.2
  have q10 := hP.2.1.2
  have q6 := hP.2.2.1
  have q24 := hP.2.2.2.1
  refine MO_mk E hp hv hP hO ok h2 h3 (fun b Q kk => ?_)
  unfold fX5_slides
  simp (disch := omega) only [↓wp_bnd, ↓wp_ret, ↓wp_ite, ↓reduceIte, ↓mFl E, ↓mPu E, m_ok E, ↓mAr E, mAr E, ↓mAs E, mAs E, ald_lit, sxs, enc_nu]
  exact kk κ g
theorem o_found (M : MI ρ ad q x ea sz th h t) : MO G ρ ad q x ea sz (fX5_found G (ad 0)) h t 0 (cnt (fndB t 1) (q 26)) := by
  obtain ⟨n, K, v, y, κ, g, rfl, E, hp, hv, hP, hO, ok, h0, h2, h3⟩ := M
  have hv' : okV q (upd v 0 0) := hv
  have q8 := hP.1.2
  have q10 := hP.2.1.2
  have q6 := hP.2.2.1
  have q24 := hP.2.2.2.1
  refine MO_mk E hp hv hP hO ok h2 h3 (fun b Q kk => ?_)
  unfold fX5_found
  simp (disch := omega) only [↓wp_bnd, ↓wp_ret, ↓wp_ite, ↓reduceIte, ↓mFl E, ↓mPu E, m_ok E, m_foundNow E hp hv.2.2.2.1 q24]
  exact kk κ g
theorem o_sureFinds (M : MI ρ ad q x ea sz th h t) : MO G ρ ad q x ea sz (fX5_sureFinds G (ad 0)) h t 0 (cnt (fndB t 2) (q 26)) := by
  obtain ⟨n, K, v, y, κ, g, rfl, E, hp, hv, hP, hO, ok, h0, h2, h3⟩ := M
  have hv' : okV q (upd v 0 0) := hv
  have q8 := hP.1.2
  have q10 := hP.2.1.2
  have q6 := hP.2.2.1
  have q24 := hP.2.2.2.1
  refine MO_mk E hp hv hP hO ok h2 h3 (fun b Q kk => ?_)
  unfold fX5_sureFinds
  simp (disch := omega) only [↓wp_bnd, ↓wp_ret, ↓wp_ite, ↓reduceIte, ↓mFl E, ↓mPu E, m_ok E, m_foundNow E hp hv.2.2.2.1 q24]
  exact kk κ g
theorem o_props (M : MI ρ ad q x ea sz th h t) : MO G ρ ad q x ea sz (fX5_props G (ad 0)) h t 0 (bitc (t.1 4)) := by
  obtain ⟨n, K, v, y, κ, g, rfl, E, hp, hv, hP, hO, ok, h0, h2, h3⟩ := M
  have hv' : okV q (upd v 0 0) := hv
  have q8 := hP.1.2
  have q10 := hP.2.1.2
  have q6 := hP.2.2.1
  have q24 := hP.2.2.2.1
  refine MO_mk E hp hv hP hO ok h2 h3 (fun b Q kk => ?_)
  unfold fX5_props
  simp (disch := omega) only [↓wp_bnd, ↓wp_ret, ↓wp_ite, ↓reduceIte, ↓mFl E, ↓mPu E, m_ok E, ↓mAr E, mAr E, ↓mAs E, mAs E, ald_lit, sxs, enc_nu, j_bitCount]
  exact kk κ g
theorem o_heightOf (M : MI ρ ad q x ea sz th h t) (a : Int32) : MO G ρ ad q x ea sz (fX5_heightOf G (ad 0) a) h (t) (anT (ixA a (q 20) fun s => .inl (n3 (t.2.1 s)))) (anV (ixA a (q 20) fun s => .inl (n3 (t.2.1 s)))) := by
  obtain ⟨n, K, v, y, κ, g, rfl, E, hp, hv, hP, hO, ok, h0, h2, h3⟩ := M
  have hv' : okV q (upd v 0 0) := hv
  have q8 := hP.1.2
  have q10 := hP.2.1.2
  have q6 := hP.2.2.1
  have q24 := hP.2.2.2.1
  refine MO_mk E hp hv hP hO ok h2 h3 (fun b Q kk => ?_)
  unfold fX5_heightOf
  rcases inR_cases a (n := q 20) (by omega) with ⟨s, hs, rfl⟩ | ⟨hb, hn⟩
  · rw [ixA_ok hs (by omega)] at kk
    simp (disch := omega) only [↓wp_bnd, ↓wp_ret, ↓wp_ite, ↓reduceIte, ↓mFl E, ↓mPu E, m_seat1 E hp hv' hP hs, m_tall E, show ((1 : Int32) = 0) = False from by decide]
    exact kk κ g
  · rw [ixA_bad hn] at kk
    simp (disch := omega) only [↓wp_bnd, ↓wp_ret, ↓wp_ite, ↓reduceIte, ↓mFl E, ↓mPu E, m_seat0 E hp hv' hP hb, m_no E, m_isNot E, wp_retN nar_b0, upd_upd]
    exact kk κ g
theorem o_isPropped (M : MI ρ ad q x ea sz th h t) (a : Int32) : MO G ρ ad q x ea sz (fX5_isPropped G (ad 0) a) h (t) (anT (ixA a (q 20) fun s => .inl (bI (isP t s)))) (anV (ixA a (q 20) fun s => .inl (bI (isP t s)))) := by
  obtain ⟨n, K, v, y, κ, g, rfl, E, hp, hv, hP, hO, ok, h0, h2, h3⟩ := M
  have hv' : okV q (upd v 0 0) := hv
  have q8 := hP.1.2
  have q10 := hP.2.1.2
  have q6 := hP.2.2.1
  have q24 := hP.2.2.2.1
  refine MO_mk E hp hv hP hO ok h2 h3 (fun b Q kk => ?_)
  unfold fX5_isPropped
  rcases inR_cases a (n := q 20) (by omega) with ⟨s, hs, rfl⟩ | ⟨hb, hn⟩
  · rw [ixA_ok hs (by omega)] at kk
    simp (disch := omega) only [↓wp_bnd, ↓wp_ret, ↓wp_ite, ↓reduceIte, ↓mFl E, ↓mPu E, m_seat1 E hp hv' hP hs, m_hasProp E, show ((1 : Int32) = 0) = False from by decide]
    cases hc : isP t s
    · rw [hc] at kk
      simp (disch := omega) only [reduceIte, wp_retN nar_b0, Bool.false_eq_true]
      exact kk κ g
    · rw [hc] at kk
      simp (disch := omega) only [reduceIte, wp_retN nar_b1]
      exact kk κ g
  · rw [ixA_bad hn] at kk
    simp (disch := omega) only [↓wp_bnd, ↓wp_ret, ↓wp_ite, ↓reduceIte, ↓mFl E, ↓mPu E, m_seat0 E hp hv' hP hb, m_no E, m_isNot E, wp_retN nar_b0, upd_upd]
    exact kk κ g
theorem o_topStratum (M : MI ρ ad q x ea sz th h t) (a : Int32) : MO G ρ ad q x ea sz (fX5_topStratum G (ad 0) a) h (t) (anT (ixA a (q 20) fun s => stA (t.2.1 s ≠ 0) (.inl (n3 (topC t s % 10))))) (anV (ixA a (q 20) fun s => stA (t.2.1 s ≠ 0) (.inl (n3 (topC t s % 10))))) := by
  obtain ⟨n, K, v, y, κ, g, rfl, E, hp, hv, hP, hO, ok, h0, h2, h3⟩ := M
  have hv' : okV q (upd v 0 0) := hv
  have q8 := hP.1.2
  have q10 := hP.2.1.2
  have q6 := hP.2.2.1
  have q24 := hP.2.2.2.1
  refine MO_mk E hp hv hP hO ok h2 h3 (fun b Q kk => ?_)
  unfold fX5_topStratum
  rcases inR_cases a (n := q 20) (by omega) with ⟨s, hs, rfl⟩ | ⟨hb, hn⟩
  · rw [ixA_ok hs (by omega)] at kk
    have h10 := ok.2.2.1 s hs
    unfold stA at kk
    by_cases c : t.2.1 s = 0
    · rw [if_neg (fun h => h c)] at kk
      simp (disch := omega) only [↓wp_bnd, ↓wp_ret, ↓wp_ite, ↓reduceIte, ↓mFl E, ↓mPu E, m_top0 E hp hv hP hs c]
      exact kk κ g
    · rw [if_pos c] at kk
      have hc := ok.top hs (by omega)
      simp (disch := omega) only [↓wp_bnd, ↓wp_ret, ↓wp_ite, ↓reduceIte, ↓mFl E, ↓mPu E, m_top1 E hp hv hP hs c h10, m_top E, n3_divl, n3_mull, n3_sub, Nat.div_mul_le_self, show ((1 : Int32) = 0) = False from by decide]
      have e : topC t s - topC t s / 10 * 10 = topC t s % 10 := by omega
      rw [e]
      exact kk κ g
  · rw [ixA_bad hn] at kk
    simp (disch := omega) only [↓wp_bnd, ↓wp_ret, ↓wp_ite, ↓reduceIte, ↓mFl E, ↓mPu E, m_top00 E hp hv hP hb]
    exact kk κ g
theorem o_isTopLoose (M : MI ρ ad q x ea sz th h t) (a : Int32) : MO G ρ ad q x ea sz (fX5_isTopLoose G (ad 0) a) h (t) (anT (ixA a (q 20) fun s => stA (t.2.1 s ≠ 0) (.inl (t.2.2.2.1 (topC t s))))) (anV (ixA a (q 20) fun s => stA (t.2.1 s ≠ 0) (.inl (t.2.2.2.1 (topC t s))))) := by
  obtain ⟨n, K, v, y, κ, g, rfl, E, hp, hv, hP, hO, ok, h0, h2, h3⟩ := M
  have hv' : okV q (upd v 0 0) := hv
  have q8 := hP.1.2
  have q10 := hP.2.1.2
  have q6 := hP.2.2.1
  have q24 := hP.2.2.2.1
  refine MO_mk E hp hv hP hO ok h2 h3 (fun b Q kk => ?_)
  unfold fX5_isTopLoose
  rcases inR_cases a (n := q 20) (by omega) with ⟨s, hs, rfl⟩ | ⟨hb, hn⟩
  · rw [ixA_ok hs (by omega)] at kk
    have h10 := ok.2.2.1 s hs
    unfold stA at kk
    by_cases c : t.2.1 s = 0
    · rw [if_neg (fun h => h c)] at kk
      simp (disch := omega) only [↓wp_bnd, ↓wp_ret, ↓wp_ite, ↓reduceIte, ↓mFl E, ↓mPu E, m_top0 E hp hv hP hs c]
      exact kk κ g
    · rw [if_pos c] at kk
      have hc := ok.top hs (by omega)
      have lo := ok.2.2.2.2.1 _ hc
      simp (disch := omega) only [↓wp_bnd, ↓wp_ret, ↓wp_ite, ↓reduceIte, ↓mFl E, ↓mPu E, ↓mAr E, mAr E, ↓mAs E, mAs E, m_top1 E hp hv hP hs c h10, m_top E, n3_ladd, sxs, enc_lo, show ((1 : Int32) = 0) = False from by decide]
      rcases lo with e | e
      · rw [e] at kk ⊢
        rw [if_neg (by decide)]
        exact kk κ g
      · rw [e] at kk ⊢
        rw [if_pos rfl]
        exact kk κ g
  · rw [ixA_bad hn] at kk
    simp (disch := omega) only [↓wp_bnd, ↓wp_ret, ↓wp_ite, ↓reduceIte, ↓mFl E, ↓mPu E, m_top00 E hp hv hP hb]
    exact kk κ g
theorem o_hasTopSpring (M : MI ρ ad q x ea sz th h t) (a : Int32) : MO G ρ ad q x ea sz (fX5_hasTopSpring G (ad 0) a) h (t) (anT (ixA a (q 20) fun s => stA (t.2.1 s ≠ 0) (.inl (x 31 (topC t s))))) (anV (ixA a (q 20) fun s => stA (t.2.1 s ≠ 0) (.inl (x 31 (topC t s))))) := by
  obtain ⟨n, K, v, y, κ, g, rfl, E, hp, hv, hP, hO, ok, h0, h2, h3⟩ := M
  have hv' : okV q (upd v 0 0) := hv
  have q8 := hP.1.2
  have q10 := hP.2.1.2
  have q6 := hP.2.2.1
  have q24 := hP.2.2.2.1
  refine MO_mk E hp hv hP hO ok h2 h3 (fun b Q kk => ?_)
  unfold fX5_hasTopSpring
  rcases inR_cases a (n := q 20) (by omega) with ⟨s, hs, rfl⟩ | ⟨hb, hn⟩
  · rw [ixA_ok hs (by omega)] at kk
    have h10 := ok.2.2.1 s hs
    unfold stA at kk
    by_cases c : t.2.1 s = 0
    · rw [if_neg (fun h => h c)] at kk
      simp (disch := omega) only [↓wp_bnd, ↓wp_ret, ↓wp_ite, ↓reduceIte, ↓mFl E, ↓mPu E, m_top0 E hp hv hP hs c]
      exact kk κ g
    · rw [if_pos c] at kk
      have hc := ok.top hs (by omega)
      have lo := (hP.2.2.2.2.2.2 _ hc).2
      simp (disch := omega) only [↓wp_bnd, ↓wp_ret, ↓wp_ite, ↓reduceIte, ↓mFl E, ↓mPu E, ↓mAr E, mAr E, ↓mAs E, mAs E, hp, m_top1 E hp hv hP hs c h10, m_top E, sxs, s7s, show ((1 : Int32) = 0) = False from by decide]
      rcases lo with e | e
      · rw [e] at kk ⊢
        rw [if_pos rfl]
        exact kk κ g
      · rw [e] at kk ⊢
        rw [if_neg (by decide)]
        exact kk κ g
  · rw [ixA_bad hn] at kk
    simp (disch := omega) only [↓wp_bnd, ↓wp_ret, ↓wp_ite, ↓reduceIte, ↓mFl E, ↓mPu E, m_top00 E hp hv hP hb]
    exact kk κ g
theorem o_findsLeft (M : MI ρ ad q x ea sz th h t) (a : Int32) : MO G ρ ad q x ea sz (fX5_findsLeft G (ad 0) a) h (t) (anT (ixA a (q 20) fun s => .inl (cnt (lftB x t s) (t.2.1 s)))) (anV (ixA a (q 20) fun s => .inl (cnt (lftB x t s) (t.2.1 s)))) := by
  obtain ⟨n, K, v, y, κ, g, rfl, E, hp, hv, hP, hO, ok, h0, h2, h3⟩ := M
  have hv' : okV q (upd v 0 0) := hv
  have q8 := hP.1.2
  have q10 := hP.2.1.2
  have q6 := hP.2.2.1
  have q24 := hP.2.2.2.1
  refine MO_mk E hp hv hP hO ok h2 h3 (fun b Q kk => ?_)
  unfold fX5_findsLeft
  rcases inR_cases a (n := q 20) (by omega) with ⟨s, hs, rfl⟩ | ⟨hb, hn⟩
  · rw [ixA_ok hs (by omega)] at kk
    simp (disch := omega) only [↓wp_bnd, ↓wp_ret, ↓wp_ite, ↓reduceIte, ↓mFl E, ↓mPu E, m_seat1 E hp hv' hP hs, m_left E hp ok hs, show ((1 : Int32) = 0) = False from by decide]
    exact kk κ g
  · rw [ixA_bad hn] at kk
    simp (disch := omega) only [↓wp_bnd, ↓wp_ret, ↓wp_ite, ↓reduceIte, ↓mFl E, ↓mPu E, m_seat0 E hp hv' hP hb, m_no E, m_isNot E, wp_retN nar_b0, upd_upd]
    exact kk κ g
theorem o_isCoin (M : MI ρ ad q x ea sz th h t) (a : Int32) : MO G ρ ad q x ea sz (fX5_isCoin G (ad 0) a) h (t) (anT (ixA a (q 26) fun s => .inl (x 27 s))) (anV (ixA a (q 26) fun s => .inl (x 27 s))) := by
  obtain ⟨n, K, v, y, κ, g, rfl, E, hp, hv, hP, hO, ok, h0, h2, h3⟩ := M
  have hv' : okV q (upd v 0 0) := hv
  have q8 := hP.1.2
  have q10 := hP.2.1.2
  have q6 := hP.2.2.1
  have q24 := hP.2.2.2.1
  refine MO_mk E hp hv hP hO ok h2 h3 (fun b Q kk => ?_)
  unfold fX5_isCoin
  rcases inR_cases a (n := q 26) (by omega) with ⟨s, hs, rfl⟩ | ⟨hb, hn⟩
  · rw [ixA_ok hs (by omega)] at kk
    have h01 : x 27 s = 0 ∨ x 27 s = 1 := by
      rcases (hP.2.2.2.2.2.1 s hs).1 with e | ⟨e, -⟩
      · exact Or.inr e
      · exact Or.inl e
    simp (disch := omega) only [↓wp_bnd, ↓wp_ret, ↓wp_ite, ↓reduceIte, ↓mFl E, ↓mPu E, ↓mAr E, mAr E, ↓mAs E, mAs E, hp, m_find1 E hp hv' hP hs, sxs, s7s, wp_retN (nar_01 h01), show ((1 : Int32) = 0) = False from by decide]
    exact kk κ g
  · rw [ixA_bad hn] at kk
    simp (disch := omega) only [↓wp_bnd, ↓wp_ret, ↓wp_ite, ↓reduceIte, ↓mFl E, ↓mPu E, m_find0 E hp hv' hP hb, m_no E, m_isNot E, wp_retN nar_b0, upd_upd]
    exact kk κ g
theorem o_stratumOf (M : MI ρ ad q x ea sz th h t) (a : Int32) : MO G ρ ad q x ea sz (fX5_stratumOf G (ad 0) a) h (t) (anT (ixA a (q 26) fun s => .inl (strm x s))) (anV (ixA a (q 26) fun s => .inl (strm x s))) := by
  obtain ⟨n, K, v, y, κ, g, rfl, E, hp, hv, hP, hO, ok, h0, h2, h3⟩ := M
  have hv' : okV q (upd v 0 0) := hv
  have q8 := hP.1.2
  have q10 := hP.2.1.2
  have q6 := hP.2.2.1
  have q24 := hP.2.2.2.1
  refine MO_mk E hp hv hP hO ok h2 h3 (fun b Q kk => ?_)
  unfold fX5_stratumOf
  rcases inR_cases a (n := q 26) (by omega) with ⟨s, hs, rfl⟩ | ⟨hb, hn⟩
  · rw [ixA_ok hs (by omega)] at kk
    simp (disch := omega) only [↓wp_bnd, ↓wp_ret, ↓wp_ite, ↓reduceIte, ↓mFl E, ↓mPu E, m_find1 E hp hv' hP hs, m_stratum E hp, show ((1 : Int32) = 0) = False from by decide]
    exact kk κ g
  · rw [ixA_bad hn] at kk
    simp (disch := omega) only [↓wp_bnd, ↓wp_ret, ↓wp_ite, ↓reduceIte, ↓mFl E, ↓mPu E, m_find0 E hp hv' hP hb, m_no E, m_isNot E, wp_retN nar_b0, upd_upd]
    exact kk κ g
theorem o_isFound (M : MI ρ ad q x ea sz th h t) (a : Int32) : MO G ρ ad q x ea sz (fX5_isFound G (ad 0) a) h (t) (anT (ixA a (q 26) fun s => .inl (if t.2.2.2.2 s = 0 then 0 else 1))) (anV (ixA a (q 26) fun s => .inl (if t.2.2.2.2 s = 0 then 0 else 1))) := by
  obtain ⟨n, K, v, y, κ, g, rfl, E, hp, hv, hP, hO, ok, h0, h2, h3⟩ := M
  have hv' : okV q (upd v 0 0) := hv
  have q8 := hP.1.2
  have q10 := hP.2.1.2
  have q6 := hP.2.2.1
  have q24 := hP.2.2.2.1
  refine MO_mk E hp hv hP hO ok h2 h3 (fun b Q kk => ?_)
  unfold fX5_isFound
  rcases inR_cases a (n := q 26) (by omega) with ⟨s, hs, rfl⟩ | ⟨hb, hn⟩
  · rw [ixA_ok hs (by omega)] at kk
    have fz := (ok.2.2.2.2.2.1 s).1
    simp (disch := omega) only [↓wp_bnd, ↓wp_ret, ↓wp_ite, ↓reduceIte, ↓mFl E, ↓mPu E, ↓mAr E, mAr E, ↓mAs E, mAs E, m_find1 E hp hv' hP hs, n3_ladd, sxs, enc_ft, show ((1 : Int32) = 0) = False from by decide]
    rcases fz with e | e | e
    · rw [e] at kk ⊢
      exact kk κ g
    · rw [e] at kk ⊢
      exact kk κ g
    · rw [e] at kk ⊢
      exact kk κ g
  · rw [ixA_bad hn] at kk
    simp (disch := omega) only [↓wp_bnd, ↓wp_ret, ↓wp_ite, ↓reduceIte, ↓mFl E, ↓mPu E, m_find0 E hp hv' hP hb, m_no E, m_isNot E, wp_retN nar_b0, upd_upd]
    exact kk κ g
theorem o_isSure (M : MI ρ ad q x ea sz th h t) (a : Int32) : MO G ρ ad q x ea sz (fX5_isSure G (ad 0) a) h (t) (anT (ixA a (q 26) fun s => stA (t.2.2.2.2 s ≠ 0) (.inl (if t.2.2.2.2 s = 2 then 1 else 0)))) (anV (ixA a (q 26) fun s => stA (t.2.2.2.2 s ≠ 0) (.inl (if t.2.2.2.2 s = 2 then 1 else 0)))) := by
  obtain ⟨n, K, v, y, κ, g, rfl, E, hp, hv, hP, hO, ok, h0, h2, h3⟩ := M
  have hv' : okV q (upd v 0 0) := hv
  have q8 := hP.1.2
  have q10 := hP.2.1.2
  have q6 := hP.2.2.1
  have q24 := hP.2.2.2.1
  refine MO_mk E hp hv hP hO ok h2 h3 (fun b Q kk => ?_)
  unfold fX5_isSure
  rcases inR_cases a (n := q 26) (by omega) with ⟨s, hs, rfl⟩ | ⟨hb, hn⟩
  · rw [ixA_ok hs (by omega)] at kk
    have fz := (ok.2.2.2.2.2.1 s).1
    unfold fX5_isSure_b31
    unfold stA at kk
    simp (disch := omega) only [↓wp_bnd, ↓wp_ret, ↓wp_ite, ↓reduceIte, ↓mFl E, ↓mPu E, ↓mAr E, mAr E, ↓mAs E, mAs E, m_find1 E hp hv hP hs, n3_ladd, sxs, enc_ft, upd_same, m_sure E, show ((1 : Int32) = 0) = False from by decide, show ((2 : Int32) = 0) = False from by decide]
    rcases fz with e | e | e
    · rw [e] at kk ⊢
      exact kk κ g
    · rw [e] at kk ⊢
      exact kk κ g
    · rw [e] at kk ⊢
      exact kk κ g
  · rw [ixA_bad hn] at kk
    unfold fX5_isSure_b31
    simp (disch := omega) only [↓wp_bnd, ↓wp_ret, ↓wp_ite, ↓reduceIte, ↓mFl E, ↓mPu E, m_find0 E hp hv hP hb, upd_same, show ((1 : Int32) = 0) = False from by decide]
    exact kk κ g
theorem o_yearOf (M : MI ρ ad q x ea sz th h t) (a : Int32) : MO G ρ ad q x ea sz (fX5_yearOf G (ad 0) a) h (t) (anT (ixA a (q 26) fun s => stA (x 27 s ≠ 0) (.inl (x 29 s)))) (anV (ixA a (q 26) fun s => stA (x 27 s ≠ 0) (.inl (x 29 s)))) := by
  obtain ⟨n, K, v, y, κ, g, rfl, E, hp, hv, hP, hO, ok, h0, h2, h3⟩ := M
  have hv' : okV q (upd v 0 0) := hv
  have q8 := hP.1.2
  have q10 := hP.2.1.2
  have q6 := hP.2.2.1
  have q24 := hP.2.2.2.1
  refine MO_mk E hp hv hP hO ok h2 h3 (fun b Q kk => ?_)
  unfold fX5_yearOf
  unfold fX5_whatOf
  rcases inR_cases a (n := q 26) (by omega) with ⟨s, hs, rfl⟩ | ⟨hb, hn⟩
  · rw [ixA_ok hs (by omega)] at kk
    have h01 : x 27 s = 0 ∨ x 27 s = 1 := by
      rcases (hP.2.2.2.2.2.1 s hs).1 with e | ⟨e, -⟩
      · exact Or.inr e
      · exact Or.inl e
    unfold stA at kk
    simp (disch := omega) only [↓wp_bnd, ↓wp_ret, ↓wp_ite, ↓reduceIte, ↓mFl E, ↓mPu E, ↓mAr E, mAr E, ↓mAs E, mAs E, hp, m_find1 E hp hv' hP hs, sxs, s7s, show ((1 : Int32) = 0) = False from by decide]
    rcases h01 with e | e
    · rw [e] at kk ⊢
      rw [if_neg (by decide)] at kk ⊢
      simp (disch := omega) only [↓wp_bnd, ↓wp_ret, ↓wp_ite, ↓reduceIte, ↓mFl E, ↓mPu E, m_no E, upd_upd]
      exact kk κ g
    · rw [e] at kk ⊢
      rw [if_pos (by decide)] at kk ⊢
      exact kk κ g
  · rw [ixA_bad hn] at kk
    simp (disch := omega) only [↓wp_bnd, ↓wp_ret, ↓wp_ite, ↓reduceIte, ↓mFl E, ↓mPu E, m_find0 E hp hv' hP hb, m_no E, m_isNot E, wp_retN nar_b0, upd_upd]
    exact kk κ g
theorem o_empireOf (M : MI ρ ad q x ea sz th h t) (a : Int32) : MO G ρ ad q x ea sz (fX5_empireOf G (ad 0) a) h (t) (anT (ixA a (q 26) fun s => stA (x 27 s = 0) (.inl (x 29 s)))) (anV (ixA a (q 26) fun s => stA (x 27 s = 0) (.inl (x 29 s)))) := by
  obtain ⟨n, K, v, y, κ, g, rfl, E, hp, hv, hP, hO, ok, h0, h2, h3⟩ := M
  have hv' : okV q (upd v 0 0) := hv
  have q8 := hP.1.2
  have q10 := hP.2.1.2
  have q6 := hP.2.2.1
  have q24 := hP.2.2.2.1
  refine MO_mk E hp hv hP hO ok h2 h3 (fun b Q kk => ?_)
  unfold fX5_empireOf
  unfold fX5_whatOf
  rcases inR_cases a (n := q 26) (by omega) with ⟨s, hs, rfl⟩ | ⟨hb, hn⟩
  · rw [ixA_ok hs (by omega)] at kk
    have h01 : x 27 s = 0 ∨ x 27 s = 1 := by
      rcases (hP.2.2.2.2.2.1 s hs).1 with e | ⟨e, -⟩
      · exact Or.inr e
      · exact Or.inl e
    unfold stA at kk
    simp (disch := omega) only [↓wp_bnd, ↓wp_ret, ↓wp_ite, ↓reduceIte, ↓mFl E, ↓mPu E, ↓mAr E, mAr E, ↓mAs E, mAs E, hp, m_find1 E hp hv' hP hs, sxs, s7s, show ((1 : Int32) = 0) = False from by decide]
    rcases h01 with e | e
    · rw [e] at kk ⊢
      rw [if_pos (by decide)] at kk ⊢
      exact kk κ g
    · rw [e] at kk ⊢
      rw [if_neg (by decide)] at kk ⊢
      simp (disch := omega) only [↓wp_bnd, ↓wp_ret, ↓wp_ite, ↓reduceIte, ↓mFl E, ↓mPu E, m_no E, upd_upd]
      exact kk κ g
  · rw [ixA_bad hn] at kk
    simp (disch := omega) only [↓wp_bnd, ↓wp_ret, ↓wp_ite, ↓reduceIte, ↓mFl E, ↓mPu E, m_find0 E hp hv' hP hb, m_no E, m_isNot E, wp_retN nar_b0, upd_upd]
    exact kk κ g
theorem o_buriedUnder (M : MI ρ ad q x ea sz th h t) (a : Int32) : MO G ρ ad q x ea sz (fX5_buriedUnder G (ad 0) a) h (t) (anT (ixA a (q 26) fun s => stA (t.2.2.2.2 s = 0) (.inl (bur (q 20) x t (x 28 s))))) (anV (ixA a (q 26) fun s => stA (t.2.2.2.2 s = 0) (.inl (bur (q 20) x t (x 28 s))))) := by
  obtain ⟨n, K, v, y, κ, g, rfl, E, hp, hv, hP, hO, ok, h0, h2, h3⟩ := M
  have hv' : okV q (upd v 0 0) := hv
  have q8 := hP.1.2
  have q10 := hP.2.1.2
  have q6 := hP.2.2.1
  have q24 := hP.2.2.2.1
  refine MO_mk E hp hv hP hO ok h2 h3 (fun b Q kk => ?_)
  unfold fX5_buriedUnder
  rcases inR_cases a (n := q 26) (by omega) with ⟨s, hs, rfl⟩ | ⟨hb, hn⟩
  · rw [ixA_ok hs (by omega)] at kk
    have fz := (ok.2.2.2.2.2.1 s).1
    unfold stA at kk
    simp (disch := omega) only [↓wp_bnd, ↓wp_ret, ↓wp_ite, ↓reduceIte, ↓mFl E, ↓mPu E, ↓mAr E, mAr E, ↓mAs E, mAs E, m_find1 E hp hv' hP hs, n3_ladd, sxs, enc_ft, show ((1 : Int32) = 0) = False from by decide]
    rcases fz with e | e | e
    · rw [e] at kk ⊢
      rw [if_pos (by decide)] at kk ⊢
      rw [m_bur (ns := q 20) (nf := q 26) E hp hv'.1 ok (by omega)]
      exact kk κ g
    · rw [e] at kk ⊢
      rw [if_neg (by decide)] at kk ⊢
      simp (disch := omega) only [↓wp_bnd, ↓wp_ret, ↓wp_ite, ↓reduceIte, ↓mFl E, ↓mPu E, m_no E, upd_upd]
      exact kk κ g
    · rw [e] at kk ⊢
      rw [if_neg (by decide)] at kk ⊢
      simp (disch := omega) only [↓wp_bnd, ↓wp_ret, ↓wp_ite, ↓reduceIte, ↓mFl E, ↓mPu E, m_no E, upd_upd]
      exact kk κ g
  · rw [ixA_bad hn] at kk
    simp (disch := omega) only [↓wp_bnd, ↓wp_ret, ↓wp_ite, ↓reduceIte, ↓mFl E, ↓mPu E, m_find0 E hp hv' hP hb, m_no E, m_isNot E, wp_retN nar_b0, upd_upd]
    exact kk κ g
theorem o_notBefore (M : MI ρ ad q x ea sz th h t) (a : Int32) : MO G ρ ad q x ea sz (fX5_notBefore G (ad 0) a) h (t) (anT (ixA a (q 21) fun s => .inl (nbf (q 26) x t (n3 s)))) (anV (ixA a (q 21) fun s => .inl (nbf (q 26) x t (n3 s)))) := by
  obtain ⟨n, K, v, y, κ, g, rfl, E, hp, hv, hP, hO, ok, h0, h2, h3⟩ := M
  have hv' : okV q (upd v 0 0) := hv
  have q8 := hP.1.2
  have q10 := hP.2.1.2
  have q6 := hP.2.2.1
  have q24 := hP.2.2.2.1
  refine MO_mk E hp hv hP hO ok h2 h3 (fun b Q kk => ?_)
  unfold fX5_notBefore
  rcases inR_cases a (n := q 21) (by omega) with ⟨s, hs, rfl⟩ | ⟨hb, hn⟩
  · rw [ixA_ok hs (by omega)] at kk
    have hP7 : okP q (s7 x κ g) := hP
    simp (disch := omega) only [↓wp_bnd, ↓wp_ret, ↓wp_ite, ↓reduceIte, ↓mFl E, ↓mPu E, m_stra1 E hp hv' hP hs, m_nbf E hp hv' hP7, show ((1 : Int32) = 0) = False from by decide]
    exact kk κ g
  · rw [ixA_bad hn] at kk
    simp (disch := omega) only [↓wp_bnd, ↓wp_ret, ↓wp_ite, ↓reduceIte, ↓mFl E, ↓mPu E, m_stra0 E hp hv' hP hb, m_no E, m_isNot E, wp_retN nar_b0, upd_upd]
    exact kk κ g
theorem o_isMixed (M : MI ρ ad q x ea sz th h t) (a : Int32) : MO G ρ ad q x ea sz (fX5_isMixed G (ad 0) a) h (t) (anT (ixA a (q 21) fun s => .inl (bI (mixB (q 22) (q 26) x t (n3 s))))) (anV (ixA a (q 21) fun s => .inl (bI (mixB (q 22) (q 26) x t (n3 s))))) := by
  obtain ⟨n, K, v, y, κ, g, rfl, E, hp, hv, hP, hO, ok, h0, h2, h3⟩ := M
  have hv' : okV q (upd v 0 0) := hv
  have q8 := hP.1.2
  have q10 := hP.2.1.2
  have q6 := hP.2.2.1
  have q24 := hP.2.2.2.1
  refine MO_mk E hp hv hP hO ok h2 h3 (fun b Q kk => ?_)
  unfold fX5_isMixed
  rcases inR_cases a (n := q 21) (by omega) with ⟨s, hs, rfl⟩ | ⟨hb, hn⟩
  · rw [ixA_ok hs (by omega)] at kk
    have hP7 : okP q (s7 x κ g) := hP
    simp (disch := omega) only [↓wp_bnd, ↓wp_ret, ↓wp_ite, ↓reduceIte, ↓mFl E, ↓mPu E, m_stra1 E hp hv' hP hs, m_mixed E hp hv' hP7, wp_retN (nar_bI _), show ((1 : Int32) = 0) = False from by decide]
    exact kk κ g
  · rw [ixA_bad hn] at kk
    simp (disch := omega) only [↓wp_bnd, ↓wp_ret, ↓wp_ite, ↓reduceIte, ↓mFl E, ↓mPu E, m_stra0 E hp hv' hP hb, m_no E, m_isNot E, wp_retN nar_b0, upd_upd]
    exact kk κ g
theorem o_isSeenIn (M : MI ρ ad q x ea sz th h t) (a c : Int32) : MO G ρ ad q x ea sz (fX5_isSeenIn G (ad 0) a c) h (t) (anT (ixA a (q 21) fun s => ixA c (q 22) fun e => .inl (bI (seeS (q 26) x t (n3 s) (n3 e))))) (anV (ixA a (q 21) fun s => ixA c (q 22) fun e => .inl (bI (seeS (q 26) x t (n3 s) (n3 e))))) := by
  obtain ⟨n, K, v, y, κ, g, rfl, E, hp, hv, hP, hO, ok, h0, h2, h3⟩ := M
  have hv' : okV q (upd v 0 0) := hv
  have q8 := hP.1.2
  have q10 := hP.2.1.2
  have q6 := hP.2.2.1
  have q24 := hP.2.2.2.1
  refine MO_mk E hp hv hP hO ok h2 h3 (fun b Q kk => ?_)
  unfold fX5_isSeenIn
  rcases inR_cases a (n := q 21) (by omega) with ⟨s, hs, rfl⟩ | ⟨hb, hn⟩
  · rw [ixA_ok hs (by omega)] at kk
    rcases inR_cases c (n := q 22) (by omega) with ⟨e, he, rfl⟩ | ⟨hb, hn⟩
    · rw [ixA_ok he (by omega)] at kk
      simp (disch := omega) only [↓wp_bnd, ↓wp_ret, ↓wp_ite, ↓reduceIte, ↓mFl E, ↓mPu E, hp, m_stra1 E hp hv' hP hs, hv'.2.2.1, m_in1 he (show q 22 ≤ 1000000 by omega), m_seenIn E hp hv'.2.2.2.1 q24, wp_retN (nar_bI _), show ((1 : Int32) = 0) = False from by decide]
      exact kk κ g
    · rw [ixA_bad hn] at kk
      simp (disch := omega) only [↓wp_bnd, ↓wp_ret, ↓wp_ite, ↓reduceIte, ↓mFl E, ↓mPu E, hp, m_stra1 E hp hv' hP hs, hv'.2.2.1, m_in0 hb (show q 22 ≤ 1000000 by omega), m_isNot E, wp_retN nar_b0, upd_upd, show ((1 : Int32) = 0) = False from by decide]
      exact kk κ g
  · rw [ixA_bad hn] at kk
    simp (disch := omega) only [↓wp_bnd, ↓wp_ret, ↓wp_ite, ↓reduceIte, ↓mFl E, ↓mPu E, m_stra0 E hp hv' hP hb, m_no E, m_isNot E, wp_retN nar_b0, upd_upd]
    exact kk κ g
end MAP
