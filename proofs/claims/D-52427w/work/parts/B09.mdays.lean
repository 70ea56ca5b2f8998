/-! THE PLAIN LAW: days of the model, and looking ahead -/
/-- a loop, step by step, any heap -/
theorem wp_for {α β σ : Type} {F : (σ → sd_M α) → σ → sd_M α} {Q : α → sd_H → Nat × Nat → Prop} (n : Nat) (en : Nat → β → σ) (I : Nat → β → sd_H → Nat × Nat → Prop)
    (Hn : ∀ k a h b, I n a h b → wp (F k (en n a)) h b Q)
    (Hs : ∀ k i a h b, i < n → I i a h b → (∀ a' h' b', I (i + 1) a' h' b' → wp (k (en (i + 1) a')) h' b' Q) → wp (F k (en i a)) h b Q) :
    ∀ fuel i a h b, i ≤ n → n - i < fuel → I i a h b → wp (sd_loop F fuel (en i a)) h b Q := by
  intro fuel
  induction fuel with
  | zero => intro i a h b h1 h2; omega
  | succ fuel ih =>
    intro i a h b h1 h2 hi
    show wp (F (sd_loop F fuel) (en i a)) h b Q
    by_cases hin : i = n
    · subst hin
      exact Hn _ _ _ _ hi
    · exact Hs _ i a h b (by omega) hi (fun a' h' b' hi' => ih (i + 1) a' h' b' (by omega) (by omega) hi')
def carT (q : Nat → Nat) (x : Nat → Nat → Int32) (t : TT) (o : Int32) (s : Nat) : Option TT := if o = 11 then (if t.2.1 s = 0 then none else some (digT (q 20) x t s)) else if o = 12 then (if isP t s = true ∨ ¬ bitc (t.1 4) < 3 then none else some (addP t s)) else (if isP t s = true then some (setl (q 20) (x 31) (subP t s)) else none)
def tolS (q : Nat → Nat) (x : Nat → Nat → Int32) (t : TT) (k : Nat) : Nat := (fmd (valP q x t (2 * k)) (n3 (q 20))).toNatClampNeg
/-- whether an order is carried out, and the state behind it (not counted) -/
def carO (q : Nat → Nat) (x : Nat → Nat → Int32) (t : TT) (k : Nat) : Bool × TT := if valP q x t (2 * k + 1) = 1 then (match carT q x t (x 33 k) (tolS q x t k) with
  | some u => (true, u)
  | none => (false, t)) else (false, t)
def ordT (q : Nat → Nat) (x : Nat → Nat → Int32) (t : TT) (k : Nat) : TT := (upd (carO q x t k).2.1 1 ((carO q x t k).2.1 1 + bI (carO q x t k).1), (carO q x t k).2.2)
def ords (q : Nat → Nat) (x : Nat → Nat → Int32) : Nat → Nat → TT → TT
  | 0, _, t => t
  | r + 1, k, t => ords q x r (k + 1) (ordT q x t k)
def dayT (q : Nat → Nat) (x : Nat → Nat → Int32) (t : TT) : TT := (upd (ords q x (q 32) 0 t).1 0 ((ords q x (q 32) 0 t).1 0 + 1), (ords q x (q 32) 0 t).2)
def dys (q : Nat → Nat) (x : Nat → Nat → Int32) : Nat → TT → TT
  | 0, t => t
  | m + 1, t => dys q x m (dayT q x t)
/-- the orders' rows are well made -/
def okO (q : Nat → Nat) (x : Nat → Nat → Int32) : Prop := ∀ k, k < q 32 → okR (q 22) x (2 * k) 1 ∧ ∃ d, d ≤ 1 ∧ okR (q 22) x (2 * k + 1) d
theorem tolS_lt {q : Nat → Nat} {x : Nat → Nat → Int32} {t : TT} {k : Nat} (hP : okP q x) : tolS q x t k < q 20 ∧ fmd (valP q x t (2 * k)) (n3 (q 20)) = n3 (tolS q x t k) := by
  obtain ⟨j, h1, h2, -⟩ := fmd_lt hP.1.1 hP.1.2 (valP q x t (2 * k))
  have h3 := hP.1.2
  unfold tolS
  rw [h2, n3_nn (by omega)]
  exact ⟨h1, rfl⟩
theorem okT_digT {q : Nat → Nat} {x : Nat → Nat → Int32} {t : TT} {s : Nat} (hP : okP q x) (ok : okT (q 20) (q 26) t) (hs : s < q 20) (h : 1 ≤ t.2.1 s) : okT (q 20) (q 26) (digT (q 20) x t s) := okT_setl (okT_dg1 hP ok hs h)
theorem okT_carT {q : Nat → Nat} {x : Nat → Nat → Int32} {t u : TT} {o : Int32} {s : Nat} (hP : okP q x) (ok : okT (q 20) (q 26) t) (hs : s < q 20) (h : carT q x t o s = some u) : okT (q 20) (q 26) u := by
  unfold carT at h
  split at h
  · split at h
    · cases h
    · cases h
      exact okT_digT hP ok hs (by omega)
  · split at h
    · split at h
      · cases h
      · cases h
        exact okT_addP ok hs
    · split at h
      · cases h
        exact okT_setl (okT_subP ok hs)
      · cases h
theorem okT_carO {q : Nat → Nat} {x : Nat → Nat → Int32} {t : TT} {k : Nat} (hP : okP q x) (ok : okT (q 20) (q 26) t) : okT (q 20) (q 26) (carO q x t k).2 := by
  unfold carO
  split
  · split
    · next u hu => exact okT_carT hP ok (tolS_lt hP).1 hu
    · exact ok
  · exact ok
theorem okT_ordT {q : Nat → Nat} {x : Nat → Nat → Int32} {t : TT} {k : Nat} (hP : okP q x) (ok : okT (q 20) (q 26) t) : okT (q 20) (q 26) (ordT q x t k) := okT_nu (okT_carO hP ok) (by decide)
theorem okT_ords {q : Nat → Nat} {x : Nat → Nat → Int32} (hP : okP q x) : ∀ r k (t : TT), okT (q 20) (q 26) t → okT (q 20) (q 26) (ords q x r k t) := by
  intro r
  induction r with
  | zero => intro k t h; exact h
  | succ r ih => intro k t h; exact ih (k + 1) _ (okT_ordT hP h)
theorem okT_dayT {q : Nat → Nat} {x : Nat → Nat → Int32} {t : TT} (hP : okP q x) (ok : okT (q 20) (q 26) t) : okT (q 20) (q 26) (dayT q x t) := okT_nu (okT_ords hP _ _ _ ok) (by decide)
theorem okT_dys {q : Nat → Nat} {x : Nat → Nat → Int32} (hP : okP q x) : ∀ m (t : TT), okT (q 20) (q 26) t → okT (q 20) (q 26) (dys q x m t) := by
  intro m
  induction m with
  | zero => intro t h; exact h
  | succ m ih => intro t h; exact ih _ (okT_dayT hP h)
/-- settling leaves the other numbers -/
theorem rn_stp_nu {ns : Nat} {sp : Nat → Int32} : ∀ r (a : TT × Int32), (rn (stp ns sp) (fun a => a) r a).1.1 = a.1.1 := by
  intro r
  induction r with
  | zero => intro a; rfl
  | succ r ih =>
    intro a
    simp only [rn]
    cases hf : stp ns sp a with
    | inl a' =>
      simp only
      rw [ih a']
      unfold stp at hf
      split at hf
      · cases hf
      · split at hf
        · cases hf
        · cases hf
          rfl
    | inr g =>
      unfold stp at hf
      split at hf
      · cases hf; rfl
      · split at hf
        · cases hf; rfl
        · cases hf
theorem setl_nu {ns : Nat} {sp : Nat → Int32} {t : TT} {i : Nat} (h : i ≠ 3) : (setl ns sp t).1 i = t.1 i := by
  unfold setl adds
  show upd (stl ns sp t).1.1 3 _ i = _
  rw [upd_ne h]
  unfold stl
  rw [rn_stp_nu]
theorem carO_nu1 {q : Nat → Nat} {x : Nat → Nat → Int32} {t : TT} {k : Nat} : (carO q x t k).2.1 1 = t.1 1 := by
  unfold carO
  split
  · split
    · next u hu =>
      unfold carT at hu
      split at hu
      · split at hu
        · cases hu
        · cases hu
          show (setl _ _ (dg1 x t (tolS q x t k))).1 1 = t.1 1
          rw [setl_nu (by decide)]
          rfl
      · split at hu
        · split at hu
          · cases hu
          · cases hu
            rfl
        · split at hu
          · cases hu
            show (setl _ _ (subP t (tolS q x t k))).1 1 = t.1 1
            rw [setl_nu (by decide)]
            rfl
          · cases hu
    · rfl
  · rfl
section MG
variable {n : Nat} {ρ : Nat → Option Nat} {ad : Nat → Nat} {K : Nat → Option sd_E} {v : Nat → Int32} {x : Nat → Nat → Int32} {y : Nat → Nat → Int64} {G : sd_G} {t : TT} {b : Nat × Nat} {h : sd_H} {q : Nat → Nat} {κ g : Nat → Int32}
theorem m_car {k : Nat} {Q : Int32 → sd_H → Nat × Nat → Prop} (E : mOk n ρ ad) (hp : ad 4 = ad 20) (hv : okV q v) (hP : okP q x) (hO : okO q x) (ok : okT (q 20) (q 26) t) (hk : k < q 32) (kk : ∀ g', Q (bI (carO q x t k).1) (hMo n ρ ad K v (sx (s7 x κ g') (enc (carO q x t k).2)) y) b) : wp (fX5_isCarriedOut G (ad 0) (n3 k)) (hMo n ρ ad K v (sx (s7 x κ g) (enc t)) y) b Q := by
  have q2 := hP.1
  have q3 := hP.2.2.2.2.1
  obtain ⟨r1, d, hd, r2⟩ := hO k hk
  have hz : n3 (q 20) ≠ 0 := by
    intro e
    have := (n3_eq (a := q 20) (b := 0) (by omega) (by omega)).mp e
    omega
  obtain ⟨h3, h4⟩ := tolS_lt (t := t) (k := k) hP
  have h10 := ok.2.2.1 _ h3
  have hP7 : ∀ κ g, okP q (s7 x κ g) := fun _ _ => hP
  unfold fX5_isCarriedOut
  simp (disch := omega) only [↓wp_bnd, ↓wp_ret, ↓wp_ite, ↓reduceIte, ↓mFl E, ↓mPu E, n3_lmul, n3_addl]
  refine m_part E hp hv hP r2 hd (by omega) (fun g1 => ?_)
  unfold carO at kk
  by_cases c1 : valP q x t (2 * k + 1) = 1
  · rw [if_pos c1] at kk
    simp (disch := omega) only [↓wp_bnd, ↓wp_ret, ↓wp_ite, ↓reduceIte, ↓mFl E, ↓mPu E, c1]
    refine m_part E hp hv hP r1 (by omega) (by omega) (fun g2 => ?_)
    simp (disch := omega) only [↓wp_bnd, ↓wp_ret, ↓wp_ite, ↓reduceIte, ↓mFl E, ↓mPu E, ↓mAr E, mAr E, ↓mAs E, mAs E, hp, hv.1, sxs, s7s, j_floorMod hz, h4]
    unfold carT at kk
    by_cases c2 : x 33 k = 11
    · rw [if_pos c2] at kk
      simp (disch := omega) only [↓wp_bnd, ↓wp_ret, ↓wp_ite, ↓reduceIte, ↓mFl E, ↓mPu E, c2, m_tall E, n3_eql]
      by_cases c3 : t.2.1 (tolS q x t k) = 0
      · rw [if_pos c3] at kk
        simp only [c3, ↓reduceIte]
        exact kk g2
      · rw [if_neg c3] at kk
        simp only [c3, ↓reduceIte]
        rw [m_digs E hp hv (hP7 κ g2) ok h3 (by omega)]
        exact kk g2
    · rw [if_neg c2] at kk
      by_cases c3 : x 33 k = 12
      · rw [if_pos c3] at kk
        simp (disch := omega) only [↓wp_bnd, ↓wp_ret, ↓wp_ite, ↓reduceIte, ↓mFl E, ↓mPu E, ↓mAr E, mAr E, ↓mAs E, mAs E, ald_lit, ast_lit, c2, c3, m_hasProp E, m_isP3 E, sxs, enc_nu, up2_sx, enc_unu]
        by_cases c4 : isP t (tolS q x t k) = true
        · rw [if_pos (Or.inl c4)] at kk
          simp only [c4, ↓reduceIte]
          exact kk g2
        · by_cases c5 : bitc (t.1 4) < 3
          · rw [if_neg (by intro h9; cases h9 with | inl h9 => exact c4 h9 | inr h9 => exact h9 c5)] at kk
            simp only [c4, c5, ↓reduceIte]
            exact kk g2
          · rw [if_pos (Or.inr c5)] at kk
            simp only [c4, c5, ↓reduceIte]
            exact kk g2
      · rw [if_neg c3] at kk
        simp (disch := omega) only [↓wp_bnd, ↓wp_ret, ↓wp_ite, ↓reduceIte, ↓mFl E, ↓mPu E, ↓mAr E, mAr E, ↓mAs E, mAs E, ald_lit, ast_lit, c2, c3, m_hasProp E, sxs, enc_nu, up2_sx, enc_unu]
        by_cases c4 : isP t (tolS q x t k) = true
        · rw [if_pos c4] at kk
          simp only [c4, ↓reduceIte, show ((1 : Int32) = 0) = False from by decide]
          refine Eq.mpr (m_settle (t := subP t (tolS q x t k)) E hp hv.1 (okT_subP ok h3)) ?_
          exact kk g2
        · rw [if_neg c4] at kk
          simp only [c4, ↓reduceIte]
          exact kk g2
  · rw [if_neg c1] at kk
    simp only [c1, ↓reduceIte, wp_ret]
    exact kk g1
theorem m_go {m : Nat} {Q : Int32 → sd_H → Nat × Nat → Prop} (E : mOk n ρ ad) (hp : ad 4 = ad 20) (hv : okV q v) (hP : okP q x) (hO : okO q x) (ok : okT (q 20) (q 26) t) (hm : m ≤ 30) (kk : ∀ g', Q (cnt (fndB (dys q x m t) 1) (q 26) - cnt (fndB t 1) (q 26)) (hMo n ρ ad K v (sx (s7 x κ g') (enc (dys q x m t))) y) b) : wp (fX5_go G (ad 0) (n3 m)) (hMo n ρ ad K v (sx (s7 x κ g) (enc t)) y) b Q := by
  have q3 := hP.2.2.2.2.1
  have hn := hP.2.2.2.1
  have hv6 := hv.2.2.2.1
  have hv2 := hv.2.2.2.2
  unfold fX5_go
  simp (disch := omega) only [↓wp_bnd, ↓wp_ret, ↓wp_ite, ↓reduceIte, ↓mFl E, ↓mPu E, m_foundNow E hp hv6 hn]
  refine wp_for (F := fun k s => fX5_go_b8 G k s.1 s.2.1 s.2.2.1 s.2.2.2) m (fun i (_ : Unit) => (ad 0, n3 m, cnt (fndB t 1) (q 26), n3 i)) (fun i _ h' b' => b' = b ∧ ∃ g' u, h' = hMo n ρ ad K v (sx (s7 x κ g') (enc u)) y ∧ okT (q 20) (q 26) u ∧ dys q x (m - i) u = dys q x m t) ?_ ?_ sd_FU 0 () _ b (Nat.zero_le _) (by unfold sd_FU; omega) ⟨rfl, g, t, rfl, ok, rfl⟩
  · rintro k a h' b' ⟨e1, g', u, e2, e3, e4⟩
    subst e1
    subst e2
    rw [Nat.sub_self] at e4
    have e4 : u = dys q x m t := e4
    unfold fX5_go_b8
    simp (disch := omega) only [↓wp_bnd, ↓wp_ret, ↓wp_ite, ↓reduceIte, ↓mFl E, ↓mPu E, n3_le, Nat.le_refl, m_foundNow E hp hv6 hn]
    rw [e4]
    exact kk g'
  · rintro k i a h' b' hi ⟨e1, g', u, e2, e3, e4⟩ K1
    subst e1
    subst e2
    have h1 : ¬ m ≤ i := by omega
    unfold fX5_go_b8
    simp (disch := omega) only [↓wp_bnd, ↓wp_ret, ↓wp_ite, ↓reduceIte, n3_le, h1]
    refine wp_for (F := fun kk s => fX5_go_b16 G k kk s.1 s.2.1 s.2.2.1 s.2.2.2.1 s.2.2.2.2) (q 32) (fun j (_ : Unit) => (ad 0, n3 m, cnt (fndB t 1) (q 26), n3 i, n3 j)) (fun j _ h' b'' => b'' = b' ∧ ∃ g' w, h' = hMo n ρ ad K v (sx (s7 x κ g') (enc w)) y ∧ okT (q 20) (q 26) w ∧ ords q x (q 32 - j) j w = ords q x (q 32) 0 u) ?_ ?_ sd_FU 0 () _ b' (Nat.zero_le _) (by unfold sd_FU; omega) ⟨rfl, g', u, rfl, e3, rfl⟩
    · rintro k2 a2 h2 b2 ⟨f1, g2, w, f2, f3, f4⟩
      subst f1
      subst f2
      rw [Nat.sub_self] at f4
      have f4 : w = ords q x (q 32) 0 u := f4
      unfold fX5_go_b16
      simp (disch := omega) only [↓wp_bnd, ↓wp_ret, ↓wp_ite, ↓reduceIte, ↓mFl E, ↓mPu E, ↓mAr E, mAr E, ↓mAs E, mAs E, ald_lit, ast_lit, hp, hv2, n3_le, Nat.le_refl, sxs, enc_nu, up2_sx, enc_unu, n3_addl]
      refine K1 () _ _ ⟨rfl, g2, dayT q x u, ?_, okT_dayT hP e3, ?_⟩
      · rw [f4]
        rfl
      · rw [← e4, show m - i = (m - (i + 1)) + 1 by omega]
        rfl
    · rintro k2 j a2 h2 b2 hj ⟨f1, g2, w, f2, f3, f4⟩ K2
      subst f1
      subst f2
      have h3 : ¬ q 32 ≤ j := by omega
      unfold fX5_go_b16
      simp (disch := omega) only [↓wp_bnd, ↓wp_ret, ↓wp_ite, ↓reduceIte, ↓mFl E, ↓mPu E, ↓mAr E, mAr E, ↓mAs E, mAs E, ald_lit, hp, hv2, n3_le, h3, sxs, enc_nu]
      refine m_car E hp hv hP hO f3 hj (fun g3 => ?_)
      simp (disch := omega) only [↓wp_bnd, ↓wp_ret, ↓wp_ite, ↓reduceIte, m_one, ast_lit, ↓mAr E, mAr E, ↓mAs E, mAs E, up2_sx, sxs, enc_unu, n3_addl]
      have hr : ∀ c : Bool, (if bI c = 0 then (0 : Int32) else 1) = bI c := by intro c; cases c <;> rfl
      have fin : wp (k2 (ad 0, n3 m, cnt (fndB t 1) (q 26), n3 i, n3 (j + 1))) (hMo n ρ ad K v (sx (s7 x κ g3) (enc (ordT q x w j))) y) b2 Q := by
        refine K2 () _ _ ⟨rfl, g3, ordT q x w j, rfl, okT_ordT hP f3, ?_⟩
        rw [← f4, show q 32 - j = (q 32 - (j + 1)) + 1 by omega]
        rfl
      have e9 : ordT q x w j = (upd (carO q x w j).2.1 1 (w.1 1 + bI (carO q x w j).1), (carO q x w j).2.2) := by
        unfold ordT
        rw [carO_nu1]
      rw [e9] at fin
      cases hc : (carO q x w j).1
      · rw [hc] at fin
        simp only [bI_f, ↓reduceIte]
        exact fin
      · rw [hc] at fin
        simp only [bI_t, show ((1 : Int32) = 0) = False from by decide, ↓reduceIte]
        exact fin
theorem cpy_all {f : Nat → Int32} {w : Nat → Int32} (h : ∀ j, 197 ≤ j → f j = w j) : va_cpy f w 0 0 197 = f := by
  funext j
  unfold va_cpy
  split
  · next hj => rw [show 0 + (j - 0) = j by omega]
  · next hj => exact (h j (by omega)).symm
theorem wp_cpI0 {a0 a k n0 n1 : Nat} {f w : Nat → Int32} {Q : Unit → sd_H → Nat × Nat → Prop} (e0 : sd_look G h a0 = some (.inl (0, n0, .inl f))) (e1 : h.2 a = some (.inl (0, n1, .inl w))) (h0 : k ≤ n0) (h1 : k ≤ n1) (hk : k < 2147483648) : wp (sd_cpI G 0 a0 0 a 0 (n3 k)) h b Q = Q () (sd_up h a (.inl (0, n1, .inl (va_cpy f w 0 0 k)))) b := by
  refine wp_eq ?_
  unfold sd_cpI
  simp only [e0, e1]
  have hn : ¬ n3 k < 0 := by
    rw [show (0 : Int32) = n3 0 from rfl, n3_lt hk (by omega)]
    omega
  have hz : (0 : Int32).toNatClampNeg = 0 := rfl
  rw [n3_nn hk, hz, if_pos]
  refine ⟨trivial, trivial, by decide, by decide, hn, by omega, by omega, Or.inl trivial⟩
/-- the stack of the kept row: 15 to 16 -/
theorem m_keep {Q : Unit → sd_H → Nat × Nat → Prop} (E : mOk n ρ ad) : wp (fX5_keep G (ad 0)) (hMo n ρ ad K v (sx (s7 x κ g) (enc t)) y) b Q = Q () (hMo n ρ ad K v (sx (s7 x (va_cpy (enc t) κ 0 0 197) g) (enc t)) y) b := by
  unfold fX5_keep
  simp only [↓wp_bnd, ↓wp_ret, ↓wp_ite, ↓reduceIte, ↓mFl E, ↓mPu E]
  rw [show (197 : Int32) = n3 197 from rfl, wp_cpI0 (n0 := 197) (n1 := 197) (f := enc t) (w := κ) (nh_look (E.1 15 (by decide))) (nh_at (E.1 16 (by decide))) (by omega) (by omega) (by omega)]
  unfold hMo
  rw [nh_up (E.1 16 (by decide)) E.one]
  congr 2
  funext j
  unfold updE
  by_cases hj : j = 16
  · subst hj
    rfl
  · rw [if_neg hj]
    unfold cM
    rw [show sx (s7 x (va_cpy (enc t) κ 0 0 197) g) (enc t) j = sx (s7 x κ g) (enc t) j from by unfold sx s7; rw [if_neg hj, if_neg hj]]
theorem m_bring {t0 : TT} {Q : Unit → sd_H → Nat × Nat → Prop} (E : mOk n ρ ad) (ok0 : okT (q 20) (q 26) t0) (ok : okT (q 20) (q 26) t) (hf : q 26 ≤ 24) : wp (fX5_bringBack G (ad 0)) (hMo n ρ ad K v (sx (s7 x (va_cpy (enc t0) κ 0 0 197) g) (enc t)) y) b Q = Q () (hMo n ρ ad K v (sx (s7 x (va_cpy (enc t0) κ 0 0 197) g) (enc t0)) y) b := by
  have far : ∀ u : TT, okT (q 20) (q 26) u → ∀ j, 197 ≤ j → enc u j = 0 := by
    intro u oku j hj
    rw [show j = 173 + (j - 173) by omega, enc_ft]
    exact (oku.2.2.2.2.2.1 (j - 173)).2 (by omega)
  have e : va_cpy (va_cpy (enc t0) κ 0 0 197) (enc t) 0 0 197 = enc t0 := by
    funext j
    unfold va_cpy
    by_cases hj : j < 197
    · rw [if_pos ⟨by omega, by omega⟩, if_pos ⟨by omega, by omega⟩]
      congr 1
      omega
    · rw [if_neg (by omega), far t ok j (by omega), far t0 ok0 j (by omega)]
  unfold fX5_bringBack
  simp only [↓wp_bnd, ↓wp_ret, ↓wp_ite, ↓reduceIte, ↓mFl E, ↓mPu E]
  rw [show (197 : Int32) = n3 197 from rfl, wp_cpI0 (n0 := 197) (n1 := 197) (f := va_cpy (enc t0) κ 0 0 197) (w := enc t) (nh_look (E.1 16 (by decide))) (nh_at (E.1 15 (by decide))) (by omega) (by omega) (by omega), e]
  unfold hMo
  rw [nh_up (E.1 15 (by decide)) E.one]
  congr 2
  funext j
  unfold updE
  by_cases hj : j = 15
  · subst hj
    rfl
  · rw [if_neg hj]
    unfold cM
    rw [show sx (s7 x (va_cpy (enc t0) κ 0 0 197) g) (enc t0) j = sx (s7 x (va_cpy (enc t0) κ 0 0 197) g) (enc t) j from by unfold sx; rw [if_neg hj, if_neg hj]]
end MG
