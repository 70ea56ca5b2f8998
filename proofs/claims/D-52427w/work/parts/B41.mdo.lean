/-! THE PLAIN LAW: what the model does by hand, over days, and looking ahead -/
theorem rn_nu {ns : Nat} {sp : Nat → Int32} : ∀ r (a : TT × Int32), (rn (stp ns sp) (fun a => a) r a).1.1 = a.1.1 := by
  intro r
  induction r with
  | zero => intro a; rfl
  | succ r ih =>
    intro a
    simp only [rn]
    cases hf : stp ns sp a with
    | inl a' =>
      unfold stp at hf
      split at hf
      · cases hf
      · split at hf
        · cases hf
        · cases hf
          exact ih _
    | inr g =>
      unfold stp at hf
      split at hf
      · cases hf
        rfl
      · split at hf
        · cases hf
          rfl
        · cases hf
theorem setl_3 {ns : Nat} {sp : Nat → Int32} {t : TT} : (setl ns sp t).1 3 - t.1 3 = (stl ns sp t).2 := by
  have e : (stl ns sp t).1.1 = t.1 := rn_nu 801 (t, 0)
  unfold setl adds
  show upd (stl ns sp t).1.1 3 ((stl ns sp t).1.1 3 + (stl ns sp t).2) 3 - t.1 3 = _
  rw [upd_same, e, Int32.add_comm, Int32.add_sub_cancel]
section MDO
variable {n : Nat} {ρ : Nat → Option Nat} {ad : Nat → Nat} {K : Nat → Option sd_E} {v : Nat → Int32} {x : Nat → Nat → Int32} {y : Nat → Nat → Int64} {G : sd_G} {t : TT} {b : Nat × Nat} {h : sd_H} {q : Nat → Nat} {κ g : Nat → Int32} {ea th : Int32} {sz : Nat}
theorem o_dig (M : MI ρ ad q x ea sz th h t) (a : Int32) : MO G ρ ad q x ea sz (fX5_dig G (ad 0) a) h (ixT a (q 20) t fun s => if t.2.1 s ≠ 0 then digT (q 20) x t s else t) (anT (ixA a (q 20) fun s => stA (t.2.1 s ≠ 0) (.inl (x 30 (topC t s))))) (anV (ixA a (q 20) fun s => stA (t.2.1 s ≠ 0) (.inl (x 30 (topC t s))))) := by
  obtain ⟨n, K, v, y, κ, g, rfl, E, hp, hv, hP, hO, ok, h0, h2, h3⟩ := M
  have hv' : okV q (upd v 0 0) := hv
  have q8 := hP.1.2
  have hP7 : okP q (s7 x κ g) := hP
  unfold fX5_dig stA
  rcases inR_cases a (n := q 20) (by omega) with ⟨s, hs, rfl⟩ | ⟨hb, hn⟩
  · rw [ixA_ok hs (by omega), ixT_ok hs (by omega)]
    have h10 := ok.2.2.1 s hs
    by_cases c : t.2.1 s = 0
    · rw [if_neg (fun h => h c), if_neg (fun h => h c)]
      refine MO_mk E hp hv hP hO ok h2 h3 (fun b Q kk => ?_)
      simp (disch := omega) only [↓wp_bnd, ↓wp_ret, ↓wp_ite, ↓reduceIte, ↓mFl E, ↓mPu E, m_top0 E hp hv hP hs c]
      exact kk κ g
    · rw [if_pos c, if_pos c]
      refine MO_mk E hp hv hP hO (okT_digT hP ok hs (by omega)) h2 h3 (fun b Q kk => ?_)
      simp (disch := omega) only [↓wp_bnd, ↓wp_ret, ↓wp_ite, ↓reduceIte, ↓mFl E, ↓mPu E, m_top1 E hp hv hP hs c h10, show ((1 : Int32) = 0) = False from by decide]
      rw [m_digs E hp hv' hP7 ok hs (by omega)]
      exact kk κ g
  · rw [ixA_bad hn, ixT_bad hn]
    refine MO_mk E hp hv hP hO ok h2 h3 (fun b Q kk => ?_)
    simp (disch := omega) only [↓wp_bnd, ↓wp_ret, ↓wp_ite, ↓reduceIte, ↓mFl E, ↓mPu E, m_top00 E hp hv hP hb]
    exact kk κ g
theorem o_prop (M : MI ρ ad q x ea sz th h t) (a : Int32) : MO G ρ ad q x ea sz (fX5_prop G (ad 0) a) h (ixT a (q 20) t fun s => if ¬ (isP t s = true ∨ ¬ bitc (t.1 4) < 3) then addP t s else t) (anT (ixA a (q 20) fun s => stA (¬ (isP t s = true ∨ ¬ bitc (t.1 4) < 3)) (.inl (bitc ((addP t s).1 4))))) (anV (ixA a (q 20) fun s => stA (¬ (isP t s = true ∨ ¬ bitc (t.1 4) < 3)) (.inl (bitc ((addP t s).1 4))))) := by
  obtain ⟨n, K, v, y, κ, g, rfl, E, hp, hv, hP, hO, ok, h0, h2, h3⟩ := M
  have hv' : okV q (upd v 0 0) := hv
  have q8 := hP.1.2
  unfold fX5_prop stA
  rcases inR_cases a (n := q 20) (by omega) with ⟨s, hs, rfl⟩ | ⟨hb, hn⟩
  · rw [ixA_ok hs (by omega), ixT_ok hs (by omega)]
    by_cases c : isP t s = true
    · rw [if_neg (fun h => h (Or.inl c)), if_neg (fun h => h (Or.inl c))]
      refine MO_mk E hp hv hP hO ok h2 h3 (fun b Q kk => ?_)
      simp (disch := omega) only [↓wp_bnd, ↓wp_ret, ↓wp_ite, ↓reduceIte, ↓mFl E, ↓mPu E, m_seat1 E hp hv' hP hs, m_hasProp E, c, m_no E, upd_upd, show ((1 : Int32) = 0) = False from by decide]
      exact kk κ g
    · by_cases c5 : bitc (t.1 4) < 3
      · have hn : ¬ (isP t s = true ∨ ¬ bitc (t.1 4) < 3) := fun h => h.elim c (fun h => h c5)
        rw [if_pos hn, if_pos hn]
        refine MO_mk E hp hv hP hO (okT_addP ok hs) h2 h3 (fun b Q kk => ?_)
        simp (disch := omega) only [↓wp_bnd, ↓wp_ret, ↓wp_ite, ↓reduceIte, ↓mFl E, ↓mPu E, ↓mAr E, mAr E, ↓mAs E, mAs E, ald_lit, ast_lit, m_seat1 E hp hv' hP hs, m_hasProp E, m_isP3 E, c, c5, sxs, enc_nu, up2_sx, enc_unu, j_bitCount, show ((1 : Int32) = 0) = False from by decide]
        exact kk κ g
      · rw [if_neg (fun h => h (Or.inr c5)), if_neg (fun h => h (Or.inr c5))]
        refine MO_mk E hp hv hP hO ok h2 h3 (fun b Q kk => ?_)
        simp (disch := omega) only [↓wp_bnd, ↓wp_ret, ↓wp_ite, ↓reduceIte, ↓mFl E, ↓mPu E, m_seat1 E hp hv' hP hs, m_hasProp E, m_isP3 E, c, c5, m_no E, upd_upd, show ((1 : Int32) = 0) = False from by decide]
        exact kk κ g
  · rw [ixA_bad hn, ixT_bad hn]
    refine MO_mk E hp hv hP hO ok h2 h3 (fun b Q kk => ?_)
    simp (disch := omega) only [↓wp_bnd, ↓wp_ret, ↓wp_ite, ↓reduceIte, ↓mFl E, ↓mPu E, m_seat0 E hp hv' hP hb, m_no E, upd_upd]
    exact kk κ g
theorem o_takeProp (M : MI ρ ad q x ea sz th h t) (a : Int32) : MO G ρ ad q x ea sz (fX5_takeProp G (ad 0) a) h (ixT a (q 20) t fun s => if isP t s = true then setl (q 20) (x 31) (subP t s) else t) (anT (ixA a (q 20) fun s => stA (isP t s = true) (.inl ((setl (q 20) (x 31) (subP t s)).1 3 - t.1 3)))) (anV (ixA a (q 20) fun s => stA (isP t s = true) (.inl ((setl (q 20) (x 31) (subP t s)).1 3 - t.1 3)))) := by
  obtain ⟨n, K, v, y, κ, g, rfl, E, hp, hv, hP, hO, ok, h0, h2, h3⟩ := M
  have hv' : okV q (upd v 0 0) := hv
  have q8 := hP.1.2
  unfold fX5_takeProp stA
  rcases inR_cases a (n := q 20) (by omega) with ⟨s, hs, rfl⟩ | ⟨hb, hn⟩
  · rw [ixA_ok hs (by omega), ixT_ok hs (by omega)]
    by_cases c : isP t s = true
    · rw [if_pos c, if_pos c]
      have e3 : (setl (q 20) (x 31) (subP t s)).1 3 - t.1 3 = (stl (q 20) (x 31) (subP t s)).2 := setl_3 (t := subP t s)
      rw [e3]
      refine MO_mk E hp hv hP hO (okT_setl (okT_subP ok hs)) h2 h3 (fun b Q kk => ?_)
      simp (disch := omega) only [↓wp_bnd, ↓wp_ret, ↓wp_ite, ↓reduceIte, ↓mFl E, ↓mPu E, ↓mAr E, mAr E, ↓mAs E, mAs E, ald_lit, ast_lit, m_seat1 E hp hv' hP hs, m_hasProp E, c, sxs, enc_nu, up2_sx, enc_unu, show ((1 : Int32) = 0) = False from by decide]
      refine Eq.mpr (m_settle (t := subP t s) E hp hv'.1 (okT_subP ok hs)) ?_
      exact kk κ g
    · rw [if_neg c, if_neg c]
      refine MO_mk E hp hv hP hO ok h2 h3 (fun b Q kk => ?_)
      simp (disch := omega) only [↓wp_bnd, ↓wp_ret, ↓wp_ite, ↓reduceIte, ↓mFl E, ↓mPu E, m_seat1 E hp hv' hP hs, m_hasProp E, c, m_no E, upd_upd, show ((1 : Int32) = 0) = False from by decide]
      exact kk κ g
  · rw [ixA_bad hn, ixT_bad hn]
    refine MO_mk E hp hv hP hO ok h2 h3 (fun b Q kk => ?_)
    simp (disch := omega) only [↓wp_bnd, ↓wp_ret, ↓wp_ite, ↓reduceIte, ↓mFl E, ↓mPu E, m_seat0 E hp hv' hP hb, m_no E, upd_upd]
    exact kk κ g
theorem o_passDays (M : MI ρ ad q x ea sz th h t) (a : Int32) : MO G ρ ad q x ea sz (fX5_passDays G (ad 0) a) h (rgT a t fun m => dys q x m t) (anT (rgA a fun m => .inl (cnt (fndB (dys q x m t) 1) (q 26) - cnt (fndB t 1) (q 26)))) (anV (rgA a fun m => .inl (cnt (fndB (dys q x m t) 1) (q 26) - cnt (fndB t 1) (q 26)))) := by
  obtain ⟨n, K, v, y, κ, g, rfl, E, hp, hv, hP, hO, ok, h0, h2, h3⟩ := M
  have hv' : okV q (upd v 0 0) := hv
  unfold fX5_passDays rgT rgA
  rcases rg_cases a with ⟨m, m1, m2, rfl, e⟩ | ⟨hb, e⟩
  · rw [e]
    refine MO_mk E hp hv hP hO (okT_dys hP m t ok) h2 h3 (fun b Q kk => ?_)
    simp (disch := omega) only [↓wp_bnd, ↓wp_ret, ↓wp_ite, ↓reduceIte, ↓mFl E, ↓mPu E, m_day1 m1 m2, show ((1 : Int32) = 0) = False from by decide]
    exact m_go E hp hv' hP hO ok m2 (fun g' => kk κ g')
  · rw [e]
    refine MO_mk E hp hv hP hO ok h2 h3 (fun b Q kk => ?_)
    simp (disch := omega) only [↓wp_bnd, ↓wp_ret, ↓wp_ite, ↓reduceIte, ↓mFl E, ↓mPu E, m_day0 hb, m_no E, upd_upd]
    exact kk κ g
theorem o_foundAfter (M : MI ρ ad q x ea sz th h t) (a : Int32) : MO G ρ ad q x ea sz (fX5_foundAfter G (ad 0) a) h t (anT (rgA a fun m => .inl (cnt (fndB (dys q x m t) 1) (q 26)))) (anV (rgA a fun m => .inl (cnt (fndB (dys q x m t) 1) (q 26)))) := by
  obtain ⟨n, K, v, y, κ, g, rfl, E, hp, hv, hP, hO, ok, h0, h2, h3⟩ := M
  have hv' : okV q (upd v 0 0) := hv
  have q24 := hP.2.2.2.1
  unfold fX5_foundAfter rgA
  rcases rg_cases a with ⟨m, m1, m2, rfl, e⟩ | ⟨hb, e⟩
  · rw [e]
    refine MO_mk E hp hv hP hO ok h2 h3 (fun b Q kk => ?_)
    simp (disch := omega) only [↓wp_bnd, ↓wp_ret, ↓wp_ite, ↓reduceIte, ↓mFl E, ↓mPu E, m_day1 m1 m2, m_keep E, show ((1 : Int32) = 0) = False from by decide]
    refine m_go E hp hv' hP hO ok m2 (fun g' => ?_)
    simp (disch := omega) only [↓wp_bnd, ↓wp_ret, ↓wp_ite, ↓reduceIte, ↓mFl E, ↓mPu E, m_foundNow E hp hv'.2.2.2.1 q24]
    rw [m_bring E ok (okT_dys hP m t ok) q24]
    exact kk _ _
  · rw [e]
    refine MO_mk E hp hv hP hO ok h2 h3 (fun b Q kk => ?_)
    simp (disch := omega) only [↓wp_bnd, ↓wp_ret, ↓wp_ite, ↓reduceIte, ↓mFl E, ↓mPu E, m_day0 hb, m_no E, upd_upd]
    exact kk κ g
theorem m_slideBy {s : Nat} {Q : Int32 → sd_H → Nat × Nat → Prop} (E : mOk n ρ ad) (hp : ad 4 = ad 20) (hv : okV q v) (hP : okP q x) (ok : okT (q 20) (q 26) t) (hs : s < q 20) (h1 : 1 ≤ t.2.1 s) (kk : ∀ κ', Q (slb q x t s) (hMo n ρ ad K v (sx (s7 x κ' g) (enc t)) y) b) : wp (fX5_slideBy G (ad 0) (n3 s)) (hMo n ρ ad K v (sx (s7 x κ g) (enc t)) y) b Q := by
  have hP7 : ∀ κ g, okP q (s7 x κ g) := fun _ _ => hP
  have q24 := hP.2.2.2.1
  unfold fX5_slideBy
  simp (disch := omega) only [↓wp_bnd, ↓wp_ret, ↓wp_ite, ↓reduceIte, ↓mFl E, ↓mPu E, ↓mAr E, mAr E, ↓mAs E, mAs E, ald_lit, m_keep E, sxs, enc_nu]
  rw [m_digs E hp hv (hP7 _ _) ok hs h1]
  simp (disch := omega) only [↓wp_bnd, ↓wp_ret, ↓wp_ite, ↓reduceIte, ↓mFl E, ↓mPu E, ↓mAr E, mAr E, ↓mAs E, mAs E, ald_lit, sxs, enc_nu]
  rw [m_bring E ok (okT_digT (hP7 _ _) ok hs h1) q24]
  exact kk _
theorem o_wouldSlide (M : MI ρ ad q x ea sz th h t) (a : Int32) : MO G ρ ad q x ea sz (fX5_wouldSlide G (ad 0) a) h t (anT (ixA a (q 20) fun s => stA (t.2.1 s ≠ 0) (.inl (slb q x t s)))) (anV (ixA a (q 20) fun s => stA (t.2.1 s ≠ 0) (.inl (slb q x t s)))) := by
  obtain ⟨n, K, v, y, κ, g, rfl, E, hp, hv, hP, hO, ok, h0, h2, h3⟩ := M
  have hv' : okV q (upd v 0 0) := hv
  have q8 := hP.1.2
  unfold fX5_wouldSlide stA
  refine MO_mk E hp hv hP hO ok h2 h3 (fun b Q kk => ?_)
  rcases inR_cases a (n := q 20) (by omega) with ⟨s, hs, rfl⟩ | ⟨hb, hn⟩
  · rw [ixA_ok hs (by omega)] at kk
    have h10 := ok.2.2.1 s hs
    by_cases c : t.2.1 s = 0
    · rw [if_neg (fun h => h c)] at kk
      simp (disch := omega) only [↓wp_bnd, ↓wp_ret, ↓wp_ite, ↓reduceIte, ↓mFl E, ↓mPu E, m_top0 E hp hv hP hs c]
      exact kk κ g
    · rw [if_pos c] at kk
      simp (disch := omega) only [↓wp_bnd, ↓wp_ret, ↓wp_ite, ↓reduceIte, ↓mFl E, ↓mPu E, m_top1 E hp hv hP hs c h10, show ((1 : Int32) = 0) = False from by decide]
      exact m_slideBy E hp hv' hP ok hs (by omega) (fun κ' => kk κ' g)
  · rw [ixA_bad hn] at kk
    simp (disch := omega) only [↓wp_bnd, ↓wp_ret, ↓wp_ite, ↓reduceIte, ↓mFl E, ↓mPu E, m_top00 E hp hv hP hb]
    exact kk κ g
theorem o_daysUntilFound (M : MI ρ ad q x ea sz th h t) (a : Int32) : MO G ρ ad q x ea sz (fX5_daysUntilFound G (ad 0) a) h t (anT (ixA a (q 26) fun f => .inl (unt q x f 31 0 t))) (anV (ixA a (q 26) fun f => .inl (unt q x f 31 0 t))) := by
  obtain ⟨n, K, v, y, κ, g, rfl, E, hp, hv, hP, hO, ok, h0, h2, h3⟩ := M
  have hv' : okV q (upd v 0 0) := hv
  have q24 := hP.2.2.2.1
  unfold fX5_daysUntilFound
  refine MO_mk E hp hv hP hO ok h2 h3 (fun b Q kk => ?_)
  rcases inR_cases a (n := q 26) (by omega) with ⟨f, hf, rfl⟩ | ⟨hb, hn⟩
  · rw [ixA_ok hf (by omega)] at kk
    simp (disch := omega) only [↓wp_bnd, ↓wp_ret, ↓wp_ite, ↓reduceIte, ↓mFl E, ↓mPu E, m_find1 E hp hv' hP hf, m_keep E, show ((1 : Int32) = 0) = False from by decide]
    refine wp_for (F := fun k s => fX5_daysUntilFound_b25 G k s.1 s.2.1 s.2.2) 31 (fun i (u : TT) => (ad 0, n3 f, n3 i)) (fun i u h' b' => b' = b ∧ (∃ g', h' = hMo n ρ ad K (upd v 0 0) (sx (s7 x (va_cpy (enc t) κ 0 0 197) g') (enc u)) y) ∧ okT (q 20) (q 26) u ∧ unt q x f (31 - i) i u = unt q x f 31 0 t) ?_ ?_ sd_FU 0 t _ b (Nat.zero_le _) (by unfold sd_FU; omega) ⟨rfl, ⟨g, rfl⟩, ok, rfl⟩
    · rintro k u h' b' ⟨rfl, ⟨g', rfl⟩, oku, i3⟩
      have i3 : (-1 : Int32) = unt q x f 31 0 t := i3
      show wp (fX5_daysUntilFound_b25 G k (ad 0) (n3 f) (n3 31)) _ b' Q
      unfold fX5_daysUntilFound_b25 fX5_daysUntilFound_b56
      rw [wp_ite, if_pos (by decide), wp_bnd, hMo_isC4 E, wp_bnd, m_bring E ok oku q24, wp_ite, if_neg (by decide), wp_ret, i3]
      exact kk _ _
    · rintro k i u h' b' hi ⟨rfl, ⟨g', rfl⟩, oku, i3⟩ nx
      have hn : ¬ (30 : Int32) < n3 i := by
        rw [show (30 : Int32) = n3 30 from rfl, n3_lt (by omega) (by omega)]
        omega
      have hn2 : n3 i ≤ 30 := by
        rw [show (30 : Int32) = n3 30 from rfl, n3_le (by omega) (by omega)]
        omega
      show wp (fX5_daysUntilFound_b25 G k (ad 0) (n3 f) (n3 i)) _ b' Q
      rw [show 31 - i = (31 - (i + 1)) + 1 by omega] at i3
      have i3 : (if u.2.2.2.2 f = 0 then unt q x f (31 - (i + 1)) (i + 1) (dys q x 1 u) else n3 i) = unt q x f 31 0 t := i3
      unfold fX5_daysUntilFound_b25 fX5_daysUntilFound_b56
      simp (disch := omega) only [↓wp_bnd, ↓wp_ret, ↓wp_ite, ↓reduceIte, hn, ↓mFl E, ↓mPu E, ↓mAr E, mAr E, ↓mAs E, mAs E, n3_ladd, sxs, enc_ft]
      by_cases c : u.2.2.2.2 f = 0
      · rw [if_pos c] at i3 ⊢
        refine m_go (m := 1) E hp hv' hP hO oku (by omega) (fun g2 => ?_)
        rw [n3_suc]
        exact nx (dys q x 1 u) _ _ ⟨rfl, ⟨g2, rfl⟩, okT_dys hP 1 u oku, i3⟩
      · rw [if_neg c] at i3 ⊢
        rw [m_bring E ok oku q24, if_pos hn2, i3]
        exact kk _ _
  · rw [ixA_bad hn] at kk
    simp (disch := omega) only [↓wp_bnd, ↓wp_ret, ↓wp_ite, ↓reduceIte, ↓mFl E, ↓mPu E, m_find0 E hp hv' hP hb, m_no E, upd_upd]
    exact kk κ g
theorem m_best {Q : Int32 → sd_H → Nat × Nat → Prop} (E : mOk n ρ ad) (hp : ad 4 = ad 20) (hv : okV q v) (hP : okP q x) (ok : okT (q 20) (q 26) t) (kk : ∀ κ', Q (bst q x t) (hMo n ρ ad K v (sx (s7 x κ' g) (enc t)) y) b) : wp (fX5_best G (ad 0)) (hMo n ρ ad K v (sx (s7 x κ g) (enc t)) y) b Q := by
  have q20 := hP.1.2
  unfold fX5_best
  refine wp_for (F := fun k s => fX5_best_b6 G k s.1 s.2.1 s.2.2.1 s.2.2.2) (q 20) (fun i (a : Option Nat × Int32) => (ad 0, bE a.1, a.2, n3 i)) (fun i a h' b' => b' = b ∧ (∃ κ', h' = hMo n ρ ad K v (sx (s7 x κ' g) (enc t)) y) ∧ (∀ k, a.1 = some k → k < q 20) ∧ itr (bsS q x t) (q 20 - i) i a = itr (bsS q x t) (q 20) 0 (none, 0)) ?_ ?_ sd_FU 0 (none, 0) _ b (Nat.zero_le _) (by unfold sd_FU; omega) ⟨rfl, ⟨κ, rfl⟩, fun k hk => by (cases hk), rfl⟩
  · rintro k a h' b' ⟨rfl, ⟨κ', rfl⟩, i3, i4⟩
    show wp (fX5_best_b6 G k (ad 0) (bE a.1) a.2 (n3 (q 20))) _ b' Q
    unfold fX5_best_b6
    simp (disch := omega) only [↓wp_bnd, ↓wp_ret, ↓wp_ite, ↓reduceIte, ↓mFl E, ↓mPu E, hp, hv.1, n3_le, Nat.le_refl]
    rw [itr_en] at i4
    have := kk κ'
    unfold bst at this
    rw [← i4] at this
    exact this
  · rintro k i a h' b' hi ⟨rfl, ⟨κ', rfl⟩, i3, i4⟩ nx
    have h10 := ok.2.2.1 i hi
    rw [itr_st _ hi] at i4
    have hn : ¬ q 20 ≤ i := by omega
    have nx2 : ∀ a' κ'', a' = bsS q x t i a → wp (k (ad 0, bE a'.1, a'.2, n3 (i + 1))) (hMo n ρ ad K v (sx (s7 x κ'' g) (enc t)) y) b' Q := by
      intro a' κ'' e
      exact nx a' _ _ ⟨rfl, ⟨κ'', rfl⟩, e ▸ bsS_lt hi i3, e ▸ i4⟩
    show wp (fX5_best_b6 G k (ad 0) (bE a.1) a.2 (n3 i)) _ b' Q
    unfold fX5_best_b6
    simp (disch := omega) only [↓wp_bnd, ↓wp_ret, ↓mFl E, ↓mPu E, hp, hv.1]
    rw [wp_ite, if_neg (by rw [n3_le (by omega) (by omega)]; exact hn)]
    rw [wp_bnd, hMo_isC4 E, wp_bnd, m_tall E (by omega), wp_ite]
    by_cases c0 : t.2.1 i = 0
    · rw [if_pos (by rw [c0]; rfl), wp_bnd, wp_ret, n3_suc]
      exact nx2 _ _ (by unfold bsS; rw [if_pos c0])
    · have e0 : ¬ n3 (t.2.1 i) = 0 := by
        rw [show (0 : Int32) = n3 0 from rfl, n3_eq (by omega) (by omega)]
        exact c0
      rw [if_neg e0, wp_bnd, hMo_isC4 E, wp_bnd]
      refine m_slideBy E hp hv hP ok hi (by omega) (fun κ2 => ?_)
      obtain ⟨a1, a2⟩ := a
      cases a1 with
      | none =>
        rw [wp_ite, if_pos (show bE none = -1 from rfl), wp_bnd, wp_ret, n3_suc]
        exact nx2 (some i, slb q x t i) _ (by unfold bsS; rw [if_neg c0])
      | some j =>
        have hj := i3 j rfl
        rw [wp_ite, if_neg (show ¬ bE (some j) = -1 from n3_ne1 (by omega)), wp_ite]
        by_cases c1 : a2 < slb q x t i
        · rw [if_pos c1, wp_bnd, wp_ret, n3_suc]
          exact nx2 (some j, a2) _ (by unfold bsS; rw [if_neg c0]; simp only; rw [if_pos c1])
        · rw [if_neg c1, wp_ite]
          by_cases c2 : slb q x t i = a2
          · rw [if_pos c2, wp_bnd, hMo_isC4 E, wp_bnd, m_left E hp ok hi, wp_bnd, hMo_isC4 E, wp_bnd]
            show wp (fX5_left G (ad 0) (n3 j)) _ b' _
            rw [m_left E hp ok hj, wp_ite]
            by_cases c3 : lft x t j < lft x t i
            · rw [if_pos (show cnt (lftB (s7 x κ2 g) t j) (t.2.1 j) < cnt (lftB (s7 x κ2 g) t i) (t.2.1 i) from c3), wp_bnd, wp_ret, n3_suc]
              exact nx2 (some i, slb q x t i) _ (by unfold bsS; rw [if_neg c0]; simp only; rw [if_neg c1, if_pos c2, if_pos c3])
            · rw [if_neg (show ¬ cnt (lftB (s7 x κ2 g) t j) (t.2.1 j) < cnt (lftB (s7 x κ2 g) t i) (t.2.1 i) from c3), wp_bnd, wp_ret, n3_suc]
              exact nx2 (some j, a2) _ (by unfold bsS; rw [if_neg c0]; simp only; rw [if_neg c1, if_pos c2, if_neg c3])
          · rw [if_neg c2, wp_bnd, wp_ret, n3_suc]
            exact nx2 (some i, slb q x t i) _ (by unfold bsS; rw [if_neg c0]; simp only; rw [if_neg c1, if_neg c2])
theorem o_bestDig (M : MI ρ ad q x ea sz th h t) : MO G ρ ad q x ea sz (fX5_bestDig G (ad 0)) h t 0 (bst q x t) := by
  obtain ⟨n, K, v, y, κ, g, rfl, E, hp, hv, hP, hO, ok, h0, h2, h3⟩ := M
  refine MO_mk E hp hv hP hO ok h2 h3 (fun b Q kk => ?_)
  unfold fX5_bestDig
  rw [wp_bnd, hMo_isC4 E, wp_bnd]
  refine m_best E hp hv hP ok (fun κ' => ?_)
  simp (disch := omega) only [↓wp_bnd, ↓wp_ret, ↓wp_ite, ↓reduceIte, ↓mFl E, ↓mPu E, m_ok E]
  exact kk κ' g
theorem o_meanYear (M : MI ρ ad q x ea sz th h t) : MO G ρ ad q x ea sz (fX5_meanYear G (ad 0)) h t 0 (mnY q x t) := by
  obtain ⟨n, K, v, y, κ, g, rfl, E, hp, hv, hP, hO, ok, h0, h2, h3⟩ := M
  have hv' : okV q (upd v 0 0) := hv
  have q26 := hP.2.2.2.1
  refine MO_mk E hp hv hP hO ok h2 h3 (fun b Q kk => ?_)
  unfold fX5_meanYear
  simp (disch := omega) only [↓wp_bnd, ↓wp_ret, ↓wp_ite, ↓reduceIte, ↓mFl E, ↓mPu E]
  refine wp_for (F := fun k s => fX5_meanYear_b11 G k s.1 s.2.1 s.2.2.1 s.2.2.2) (q 26) (fun i (a : Int32 × Int32) => (ad 0, a.1, a.2, n3 i)) (fun i a h' b' => h' = hMo n ρ ad K (upd v 0 0) (sx (s7 x κ g) (enc t)) y ∧ b' = b ∧ itr (mnS x t) (q 26 - i) i a = itr (mnS x t) (q 26) 0 (0, 0)) ?_ ?_ sd_FU 0 (0, 0) _ b (Nat.zero_le _) (by unfold sd_FU; omega) ⟨rfl, rfl, rfl⟩
  · rintro k a h' b' ⟨rfl, rfl, i3⟩
    show wp (fX5_meanYear_b11 G k (ad 0) a.1 a.2 (n3 (q 26))) _ b' _
    rw [itr_en] at i3
    have kk := kk κ g
    unfold mnY at kk
    rw [← i3] at kk
    unfold mnE at kk
    unfold fX5_meanYear_b11
    simp (disch := omega) only [↓wp_bnd, ↓wp_ret, ↓wp_ite, ↓reduceIte, ↓mFl E, ↓mPu E, hp, hv'.2.2.2.1, n3_le, Nat.le_refl]
    by_cases c : a.2 = 0
    · rw [if_pos c] at kk ⊢
      exact kk
    · rw [if_neg c] at kk ⊢
      rw [wp_dn c]
      exact kk
  · rintro k i a h' b' hi ⟨rfl, rfl, i3⟩ nx
    show wp (fX5_meanYear_b11 G k (ad 0) a.1 a.2 (n3 i)) _ b' _
    rw [itr_st _ hi] at i3
    have hn : ¬ q 26 ≤ i := by omega
    have nx := nx _ _ _ ⟨rfl, rfl, i3⟩
    unfold mnS at nx
    unfold fX5_meanYear_b11
    simp (disch := omega) only [↓wp_bnd, ↓wp_ret, ↓wp_ite, ↓reduceIte, ↓mFl E, ↓mPu E, ↓mAr E, mAr E, ↓mAs E, mAs E, hp, hv'.2.2.2.1, n3_le, hn, sxs, s7s, m_sure E]
    by_cases c2 : x 27 i = 0
    · rw [if_pos c2, n3_suc]
      rw [if_neg (fun h => h.2 c2)] at nx
      exact nx
    · rw [if_neg c2]
      by_cases c : t.2.2.2.2 i = 2
      · rw [if_pos ⟨c, c2⟩] at nx
        rw [if_pos c, if_neg (by decide), n3_suc]
        exact nx
      · rw [if_neg (fun h => c h.1)] at nx
        rw [if_neg c, n3_suc]
        exact nx
end MDO
