/-! THE PLAIN LAW: the model's digest -/
section MDG
variable {n : Nat} {ρ : Nat → Option Nat} {ad : Nat → Nat} {K : Nat → Option sd_E} {v : Nat → Int32} {x : Nat → Nat → Int32} {y : Nat → Nat → Int64} {G : sd_G} {t : TT} {b : Nat × Nat} {h : sd_H} {q : Nat → Nat} {κ g : Nat → Int32} {ea th : Int32} {sz : Nat}
theorem m_oneb {c : Bool} {Q : Int32 → sd_H → Nat × Nat → Prop} : wp (fX5_one G (bI c)) h b Q = Q (bI c) h b := by
  rw [m_one]
  cases c
  · rw [if_pos (show bI false = 0 from rfl)]
    rfl
  · rw [if_neg (show ¬ bI true = 0 by decide)]
    rfl
theorem m_dg3 {Q : Int64 → sd_H → Nat × Nat → Prop} {d : Int64} (E : mOk n ρ ad) (hp : ad 4 = ad 20) (hv : okV q v) (hP : okP q x) (kk : Q (dgs3 q x t d) (hMo n ρ ad K v (sx (s7 x κ g) (enc t)) y) b) : wp (sd_loop (fun k s => fX5_digest_b307 G k s.1 s.2.1 s.2.2) sd_FU (ad 0, d, 0)) (hMo n ρ ad K v (sx (s7 x κ g) (enc t)) y) b Q := by
  have q21 := hP.2.1.2
  have hP7 : okP q (s7 x κ g) := hP
  refine wp_for (q 21) (fun i (a : Int64) => (ad 0, a, n3 i)) (fun i a h' b' => h' = (hMo n ρ ad K v (sx (s7 x κ g) (enc t)) y) ∧ b' = b ∧ itr (dgD q x t) (q 21 - i) i a = dgs3 q x t d) ?_ ?_ sd_FU 0 d _ b (Nat.zero_le _) (by unfold sd_FU; omega) ⟨rfl, rfl, rfl⟩
  · rintro k a h' b' ⟨rfl, rfl, i3⟩
    show wp (fX5_digest_b307 G k (ad 0) a (n3 (q 21))) _ b' Q
    rw [itr_en] at i3
    unfold fX5_digest_b307
    simp (disch := omega) only [↓wp_bnd, ↓wp_ret, ↓wp_ite, ↓reduceIte, ↓mFl E, ↓mPu E, hp, hv.2.1, n3_le, Nat.le_refl]
    rw [i3]
    exact kk
  · rintro k i a h' b' hi ⟨rfl, rfl, i3⟩ nx
    show wp (fX5_digest_b307 G k (ad 0) a (n3 i)) _ b' Q
    rw [itr_st _ hi] at i3
    have hn : ¬ q 21 ≤ i := by omega
    have nx := nx _ _ _ ⟨rfl, rfl, i3⟩
    unfold fX5_digest_b307
    simp (disch := omega) only [↓wp_bnd, ↓wp_ret, ↓wp_ite, ↓reduceIte, ↓mFl E, ↓mPu E, hp, hv.2.1, n3_le, hn, m_nbf E hp hv hP7, m_mixed E hp hv hP7, m_oneb]
    rw [n3_suc]
    exact nx
theorem m_dg2 {Q : Int64 → sd_H → Nat × Nat → Prop} {d : Int64} (E : mOk n ρ ad) (hp : ad 4 = ad 20) (hv : okV q v) (hP : okP q x) (ok : okT (q 20) (q 26) t) (kk : Q (dgs2 q x t d) (hMo n ρ ad K v (sx (s7 x κ g) (enc t)) y) b) : wp (sd_loop (fun k s => fX5_digest_b241 G k s.1 s.2.1 s.2.2) sd_FU (ad 0, d, 0)) (hMo n ρ ad K v (sx (s7 x κ g) (enc t)) y) b Q := by
  have q26 := hP.2.2.2.1
  refine wp_for (q 26) (fun i (a : Int64) => (ad 0, a, n3 i)) (fun i a h' b' => h' = (hMo n ρ ad K v (sx (s7 x κ g) (enc t)) y) ∧ b' = b ∧ dgs3 q x t (itr (dgC t) (q 26 - i) i a) = dgs2 q x t d) ?_ ?_ sd_FU 0 d _ b (Nat.zero_le _) (by unfold sd_FU; omega) ⟨rfl, rfl, rfl⟩
  · rintro k a h' b' ⟨rfl, rfl, i3⟩
    show wp (fX5_digest_b241 G k (ad 0) a (n3 (q 26))) _ b' Q
    rw [itr_en] at i3
    rw [← i3] at kk
    unfold fX5_digest_b241
    simp (disch := omega) only [↓wp_bnd, ↓wp_ret, ↓wp_ite, ↓reduceIte, ↓mFl E, ↓mPu E, hp, hv.2.2.2.1, n3_le, Nat.le_refl]
    exact m_dg3 E hp hv hP kk
  · rintro k i a h' b' hi ⟨rfl, rfl, i3⟩ nx
    show wp (fX5_digest_b241 G k (ad 0) a (n3 i)) _ b' Q
    rw [itr_st _ hi] at i3
    have fz := (ok.2.2.2.2.2.1 i).1
    have hn : ¬ q 26 ≤ i := by omega
    have nx := nx _ _ _ ⟨rfl, rfl, i3⟩
    unfold dgC at nx
    unfold fX5_digest_b241 fX5_digest_b277
    simp (disch := omega) only [↓wp_bnd, ↓wp_ret, ↓wp_ite, ↓reduceIte, ↓mFl E, ↓mPu E, ↓mAr E, mAr E, ↓mAs E, mAs E, hp, hv.2.2.2.1, n3_le, hn, n3_ladd, sxs, enc_ft, m_one, m_sure E, n3_addl, show ((1 : Int32) = 0) = False from by decide]
    rcases fz with e | e | e
    · rw [e] at nx ⊢
      exact nx
    · rw [e] at nx ⊢
      exact nx
    · rw [e] at nx ⊢
      exact nx
theorem m_dg1 {Q : Int64 → sd_H → Nat × Nat → Prop} {d : Int64} (E : mOk n ρ ad) (hp : ad 4 = ad 20) (hv : okV q v) (hP : okP q x) (ok : okT (q 20) (q 26) t) (kk : Q (dgs1 q x t d) (hMo n ρ ad K v (sx (s7 x κ g) (enc t)) y) b) : wp (sd_loop (fun k s => fX5_digest_b151 G k s.1 s.2.1 s.2.2) sd_FU (ad 0, d, 0)) (hMo n ρ ad K v (sx (s7 x κ g) (enc t)) y) b Q := by
  have q20 := hP.1.2
  refine wp_for (q 20) (fun i (a : Int64) => (ad 0, a, n3 i)) (fun i a h' b' => h' = (hMo n ρ ad K v (sx (s7 x κ g) (enc t)) y) ∧ b' = b ∧ dgs2 q x t (itr (dgB x t) (q 20 - i) i a) = dgs1 q x t d) ?_ ?_ sd_FU 0 d _ b (Nat.zero_le _) (by unfold sd_FU; omega) ⟨rfl, rfl, rfl⟩
  · rintro k a h' b' ⟨rfl, rfl, i3⟩
    show wp (fX5_digest_b151 G k (ad 0) a (n3 (q 20))) _ b' Q
    rw [itr_en] at i3
    rw [← i3] at kk
    unfold fX5_digest_b151
    simp (disch := omega) only [↓wp_bnd, ↓wp_ret, ↓wp_ite, ↓reduceIte, ↓mFl E, ↓mPu E, hp, hv.1, n3_le, Nat.le_refl]
    exact m_dg2 E hp hv hP ok kk
  · rintro k i a h' b' hi ⟨rfl, rfl, i3⟩ nx
    show wp (fX5_digest_b151 G k (ad 0) a (n3 i)) _ b' Q
    rw [itr_st _ hi] at i3
    have h10 := ok.2.2.1 i hi
    have hn : ¬ q 20 ≤ i := by omega
    have nx := nx _ _ _ ⟨rfl, rfl, i3⟩
    unfold dgB lft at nx
    have hpr : ∀ (b : Nat × Nat) (Q : Int32 → sd_H → Nat × Nat → Prop), wp (fX5_hasProp G (ad 0) (n3 i)) (hMo n ρ ad K v (sx (s7 x κ g) (enc t)) y) b Q = Q (bI (isP t i)) (hMo n ρ ad K v (sx (s7 x κ g) (enc t)) y) b := by
      intro b Q
      rw [m_hasProp E]
      cases isP t i <;> rfl
    unfold fX5_digest_b151
    simp (disch := omega) only [↓wp_bnd, ↓wp_ret, ↓wp_ite, ↓reduceIte, ↓mFl E, ↓mPu E, hp, hv.1, n3_le, hn, m_tall E, hpr, m_oneb, m_left E hp ok hi]
    by_cases c0 : t.2.1 i = 0
    · rw [if_pos (by rw [c0]; rfl), n3_suc]
      rw [if_pos c0] at nx
      exact nx
    · have e0 : ¬ n3 (t.2.1 i) = 0 := by
        rw [show (0 : Int32) = n3 0 from rfl, n3_eq (by omega) (by omega)]
        exact c0
      have hc := ok.top hi (by omega)
      rw [if_neg c0] at nx
      rw [if_neg e0]
      simp (disch := omega) only [m_top E, n3_divl, n3_mull, n3_sub, Nat.div_mul_le_self]
      rw [n3_suc, show topC t i - topC t i / 10 * 10 = topC t i % 10 by omega]
      exact nx
theorem mOk_suc (E : mOk n ρ ad) : mOk (n + 1) ρ ad := ⟨E.1, E.2.1, fun a i h => Nat.lt_succ_of_lt (E.2.2 a i h)⟩
theorem mOk_none (E : mOk n ρ ad) : ρ n = none := by
  cases h : ρ n with
  | none => rfl
  | some i =>
    have := E.2.2 _ _ h
    omega
theorem mo_pu {e : sd_E} (E : mOk n ρ ad) : sd_pu (hMo n ρ ad K v x y) e = hMo (n + 1) ρ ad (updK K n e) v x y := nh_pu (mOk_none E)
theorem wfH_K {n' : Nat} {K' : Nat → Option sd_E} {v' : Nat → Int32} {x' : Nat → Nat → Int32} {y' : Nat → Nat → Int64} (w : wfH G (hMo n ρ ad K v x y)) (E : mOk n ρ ad) (hn : n ≤ n') (hK : ∀ a e, ρ a = none → K' a = some e → K a = some e ∨ (n ≤ a ∧ a < n')) : wfH G (hMo n' ρ ad K' v' x' y') := by
  obtain ⟨w1, w2, w3, w4⟩ := w
  have w2 : sd_z G ≤ n := w2
  refine ⟨fun a e ha => ?_, Nat.le_trans w2 hn, w3, w4⟩
  unfold hMo at ha w1
  cases hr : ρ a with
  | some i =>
    have := w1 a _ (nh_at hr)
    exact ⟨this.1, Nat.lt_of_lt_of_le this.2 hn⟩
  | none =>
    rw [nh_out hr] at ha
    rcases hK a e hr ha with h | h
    · have := w1 a e ((nh_out hr).trans h)
      exact ⟨this.1, Nat.lt_of_lt_of_le this.2 hn⟩
    · exact ⟨Nat.le_trans w2 h.1, h.2⟩
theorem mf_K {K' : Nat → Option sd_E} {v' : Nat → Int32} {x' : Nat → Nat → Int32} {y' : Nat → Nat → Int64} (E : mOk n ρ ad) (hK : ∀ a, a ≠ n → K' a = K a) : mf G ρ (hMo n ρ ad K v x y) (hMo (n + 1) ρ ad K' v' x' y') := by
  refine ⟨Nat.le_succ n, fun a ha hr => ?_, fun w => wfH_K w E (Nat.le_succ n) (fun a e _ he => ?_)⟩
  · have ha : a < n := ha
    unfold hMo
    rw [nh_out hr, nh_out hr, hK a (by omega)]
  · by_cases c : a = n
    · exact Or.inr ⟨by omega, by omega⟩
    · rw [hK a c] at he
      exact Or.inl he
theorem updK_ne {K : Nat → Option sd_E} {o a : Nat} {e : sd_E} (h : a ≠ o) : updK K o e a = K a := if_neg h
theorem updK_at {K : Nat → Option sd_E} {o : Nat} {e : sd_E} : updK K o e o = some e := if_pos rfl
theorem updK_updK {K : Nat → Option sd_E} {o : Nat} {e e' : sd_E} : updK (updK K o e) o e' = updK K o e' := by
  funext j
  unfold updK
  by_cases h : j = o
  · rw [if_pos h, if_pos h]
  · rw [if_neg h, if_neg h, if_neg h]
/-- a store into an array of our own beside the model -/
theorem mo_st {f : Nat → Int32} {i o len : Nat} {z : Int32} {Q : Unit → sd_H → Nat × Nat → Prop} (ho : ρ o = none) (hi : i < len) (hl : len ≤ 1000) : wp (sd_astI 0 o (n3 i) z) (hMo n ρ ad (updK K o (.inl (0, len, .inl f))) v x y) b Q = Q () (hMo n ρ ad (updK K o (.inl (0, len, .inl (upd f i z)))) v x y) b := by
  unfold hMo
  rw [wp_astI ((nh_out ho).trans updK_at) (n3_ix hi (by omega)), n3_nn (by omega)]
  rw [nh_upK ho, updK_updK]
  rfl
theorem mo_ld {f : Nat → Int32} {i o len : Nat} {Q : Int32 → sd_H → Nat × Nat → Prop} (ho : ρ o = none) (hi : i < len) (hl : len ≤ 1000) : wp (sd_aldI G 0 o (n3 i)) (hMo n ρ ad (updK K o (.inl (0, len, .inl f))) v x y) b Q = Q (f i) (hMo n ρ ad (updK K o (.inl (0, len, .inl f))) v x y) b := by
  unfold hMo
  rw [wp_aldI (nh_lookK ho updK_at) (n3_ix hi (by omega)), n3_nn (by omega)]
theorem o_digest (M : MI ρ ad q x ea sz th h t) : MO G ρ ad q x ea sz (fX5_digest G (ad 0)) h t 0 (dgs q x t) := by
  obtain ⟨n, K, v, y, κ, g, rfl, E, hp, hv, hP, hO, ok, h0, h2, h3⟩ := M
  intro b Q b1 b2 kk
  have hv' : okV q (upd v 0 0) := hv
  have q24 := hP.2.2.2.1
  have ho := mOk_none E
  have E' := mOk_suc E
  unfold fX5_digest
  rw [wp_bnd, (mPu E).1, wp_bnd]
  refine wp_newI (n := 10) (by omega) (by omega) (by omega) ?_
  rw [mo_pu E]
  show wp _ (hMo (n + 1) ρ ad (updK K n (.inl (0, 10, .inl fun _ => 0))) (upd v 0 0) (sx (s7 x κ g) (enc t)) y) _ Q
  have st : ∀ (f : Nat → Int32) (i : Nat) (z : Int32) (b : Nat × Nat) (Q : Unit → sd_H → Nat × Nat → Prop), i < 10 → wp (sd_astI 0 n (n3 i) z) (hMo (n + 1) ρ ad (updK K n (.inl (0, 10, .inl f))) (upd v 0 0) (sx (s7 x κ g) (enc t)) y) b Q = Q () (hMo (n + 1) ρ ad (updK K n (.inl (0, 10, .inl (upd f i z)))) (upd v 0 0) (sx (s7 x κ g) (enc t)) y) b := fun f i z b Q hi => mo_st ho hi (by omega)
  show wp (sd_bnd (sd_getR G 4 4 (ad 0)) fun v2 => sd_bnd (sd_getI G 5 0 v2) fun v3 => sd_bnd (sd_astI 0 n (n3 0) v3) fun _ => _) _ _ _
  rw [wp_bnd, (mFl E').2.2.2.2.1, hp, wp_bnd, hMo_getI5 E' rfl, hv'.1, wp_bnd, st _ 0 _ _ _ (by omega)]
  show wp (sd_bnd (sd_getR G 4 4 (ad 0)) fun v2 => sd_bnd (sd_getI G 5 1 v2) fun v3 => sd_bnd (sd_astI 0 n (n3 1) v3) fun _ => _) _ _ _
  rw [wp_bnd, (mFl E').2.2.2.2.1, hp, wp_bnd, hMo_getI5 E' rfl, hv'.2.1, wp_bnd, st _ 1 _ _ _ (by omega)]
  show wp (sd_bnd (sd_getR G 4 4 (ad 0)) fun v2 => sd_bnd (sd_getI G 5 6 v2) fun v3 => sd_bnd (sd_astI 0 n (n3 2) v3) fun _ => _) _ _ _
  rw [wp_bnd, (mFl E').2.2.2.2.1, hp, wp_bnd, hMo_getI5 E' rfl, hv'.2.2.2.1, wp_bnd, st _ 2 _ _ _ (by omega)]
  have r15 : ∀ (i : Nat) (f : Nat → Int32) (b : Nat × Nat) (Q : Int32 → sd_H → Nat × Nat → Prop), i < 5 → wp (sd_aldI G 0 (ad 15) (n3 i)) (hMo (n + 1) ρ ad (updK K n (.inl (0, 10, .inl f))) (upd v 0 0) (sx (s7 x κ g) (enc t)) y) b Q = Q (t.1 i) (hMo (n + 1) ρ ad (updK K n (.inl (0, 10, .inl f))) (upd v 0 0) (sx (s7 x κ g) (enc t)) y) b := by
    intro i f b Q hi
    simp (disch := omega) only [↓mAr E', mAr E', ↓mAs E', mAs E', sxs, enc_nu]
  show wp (sd_bnd (sd_getR G 4 15 (ad 0)) fun v2 => sd_bnd (sd_aldI G 0 v2 (n3 0)) fun v3 => sd_bnd (sd_astI 0 n (n3 3) v3) fun _ => _) _ _ _
  rw [wp_bnd, hMo_getR4 E' rfl, wp_bnd, r15 0 _ _ _ (by omega), wp_bnd, st _ 3 _ _ _ (by omega)]
  show wp (sd_bnd (sd_getR G 4 15 (ad 0)) fun v2 => sd_bnd (sd_aldI G 0 v2 (n3 1)) fun v3 => sd_bnd (sd_astI 0 n (n3 4) v3) fun _ => _) _ _ _
  rw [wp_bnd, hMo_getR4 E' rfl, wp_bnd, r15 1 _ _ _ (by omega), wp_bnd, st _ 4 _ _ _ (by omega)]
  show wp (sd_bnd (sd_getR G 4 15 (ad 0)) fun v2 => sd_bnd (sd_aldI G 0 v2 (n3 2)) fun v3 => sd_bnd (sd_astI 0 n (n3 5) v3) fun _ => _) _ _ _
  rw [wp_bnd, hMo_getR4 E' rfl, wp_bnd, r15 2 _ _ _ (by omega), wp_bnd, st _ 5 _ _ _ (by omega)]
  show wp (sd_bnd (sd_getR G 4 15 (ad 0)) fun v2 => sd_bnd (sd_aldI G 0 v2 (n3 3)) fun v3 => sd_bnd (sd_astI 0 n (n3 6) v3) fun _ => _) _ _ _
  rw [wp_bnd, hMo_getR4 E' rfl, wp_bnd, r15 3 _ _ _ (by omega), wp_bnd, st _ 6 _ _ _ (by omega)]
  show wp (sd_bnd (sd_isC G 4 (ad 0)) fun _ => sd_bnd (fX5_foundNow G (ad 0) 1) fun v3 => sd_bnd (sd_astI 0 n (n3 7) v3) fun _ => _) _ _ _
  rw [wp_bnd, hMo_isC4 E', wp_bnd, m_foundNow E' hp hv'.2.2.2.1 q24, wp_bnd, st _ 7 _ _ _ (by omega)]
  show wp (sd_bnd (sd_isC G 4 (ad 0)) fun _ => sd_bnd (fX5_foundNow G (ad 0) 2) fun v3 => sd_bnd (sd_astI 0 n (n3 8) v3) fun _ => _) _ _ _
  rw [wp_bnd, hMo_isC4 E', wp_bnd, m_foundNow E' hp hv'.2.2.2.1 q24, wp_bnd, st _ 8 _ _ _ (by omega)]
  rw [wp_bnd, hMo_isC4 E', wp_bnd]
  refine m_best E' hp hv' hP ok (fun κ' => ?_)
  show wp (sd_bnd (sd_astI 0 n (n3 9) (bst q x t)) fun _ => _) _ _ _
  rw [wp_bnd, mo_st ho (by omega) (by omega), wp_bnd]
  show wp (sd_alen G n) (hMo (n + 1) ρ ad (updK K n (.inl (0, 10, .inl (dgA q x t)))) (upd v 0 0) (sx (s7 x κ' g) (enc t)) y) _ _
  refine Eq.mpr (wp_alen (x := (0, 10, .inl (dgA q x t))) (nh_lookK ho updK_at)) ?_
  refine wp_for 10 (fun i (a : Int64) => (ad 0, a, n, n3 10, n3 i)) (fun i a h' b' => h' = hMo (n + 1) ρ ad (updK K n (.inl (0, 10, .inl (dgA q x t)))) (upd v 0 0) (sx (s7 x κ' g) (enc t)) y ∧ b' = (b.1 - 1, b.2 - 10) ∧ dgs1 q x t (itr (dg0 (dgA q x t)) (10 - i) i a) = dgs q x t) ?_ ?_ sd_FU 0 1021 _ _ (Nat.zero_le _) (by unfold sd_FU; omega) ⟨rfl, rfl, rfl⟩
  · rintro k a h' b' ⟨rfl, rfl, i3⟩
    show wp (fX5_digest_b118 G k (ad 0) a n (n3 10) (n3 10)) _ _ Q
    unfold fX5_digest_b118
    rw [wp_ite, if_pos (by decide)]
    rw [show 10 - 10 = 0 from rfl] at i3
    refine m_dg1 E' hp hv' hP ok ?_
    show Q (dgs1 q x t (itr (dg0 (dgA q x t)) 0 10 a)) _ _
    rw [i3]
    exact kk _ _ ⟨n + 1, _, _, y, κ', g, rfl, E', hp, hv', hP, hO, ok, rfl, h2, h3⟩ (mf_K E (fun a ha => updK_ne ha)) (by simp only; omega) (by simp only; omega)
  · rintro k i a h' b' hi ⟨rfl, rfl, i3⟩ nx
    show wp (fX5_digest_b118 G k (ad 0) a n (n3 10) (n3 i)) _ _ Q
    rw [itr_st _ hi] at i3
    have nx := nx _ _ _ ⟨rfl, rfl, i3⟩
    unfold dg0 at nx
    have hn : ¬ n3 10 ≤ n3 i := by
      rw [n3_le (by omega) (by omega)]
      omega
    unfold fX5_digest_b118
    rw [wp_ite, if_neg hn, wp_bnd, mo_ld ho hi (by omega), wp_bnd, wp_ret, wp_bnd, wp_ret, n3_suc]
    exact nx
end MDG
