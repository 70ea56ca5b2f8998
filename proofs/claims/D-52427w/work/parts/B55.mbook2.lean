/-! THE PLAIN LAW: the model reads orders, lines, the book -/
section MBO
variable {n : Nat} {ρ : Nat → Option Nat} {ad : Nat → Nat} {K : Nat → Option sd_E} {v : Nat → Int32} {x : Nat → Nat → Int32} {y : Nat → Nat → Int64} {G : sd_G} {b : Nat × Nat} {κ : Nat → Nat} {vl : Nat → Int32} {N : Nat} {i m no : Nat} {p q e a c f : Nat → Int32}
theorem tkX_q (T : tkX κ vl N x y) : tkX κ vl N (qx x a c f) y := T
/-- a part: its rows -/
theorem m_prt {pt tf cd : Nat} {Q : Int32 → sd_H → Nat × Nat → Prop} (E : mOk n ρ ad) (T : tkX κ vl N x y) (hi : i ≤ N) (hm : m ≤ i) (hp : pt < 32) (hc : (tf = 0 ∧ cd = 0) ∨ (tf = 1 ∧ cd = 5)) (kk : match pX κ vl cd i with
    | .inl (j, w, ks) => Q 1 (hMo n ρ ad K (pv v j 0 (m + w.length)) (px (qx x a (upd c pt (n3 m)) (upd f pt (n3 (m + w.length)))) (wrA p m (w.map Prod.fst)) (wrA q m (w.map Prod.snd)) (mrk e ks)) y) b
    | .inr j => ∀ d1 m1 p1 q1 e1 c1 f1, Q 0 (hMo n ρ ad K (pv v j d1 m1) (px (qx x a c1 f1) p1 q1 e1) y) b) : wp (fX5_isPart G (ad 0) (ad 20) (n3 pt) (n3 tf)) (hMo n ρ ad K (pv v i 0 m) (px (qx x a c f) p q e) y) b Q := by
  have hN := T.1
  have h400 := hN.1
  have SP := SPm_all (G := G) (K := K) (v := v) (x := qx x a (upd c pt (n3 m)) f) E (tkX_q T) 7000
  have eX := pX_eq (vl := vl) (c := cd) hN hi
  have oX := pX_ok (vl := vl) (c := cd) hN hi
  unfold fX5_isPart
  rw [wp_bnd, hMo_getR5 E rfl, wp_bnd, hMo_getI5 E rfl, pv_38, wp_bnd]
  simp (disch := omega) only [↓mAr E, mAr E, ↓mAs E, mAs E, qx_34]
  have fin : ∀ (f1 : sd_M Int32), mS n ρ ad K v (qx x a (upd c pt (n3 m)) f) y 0 f1 i 0 0 (pX κ vl cd i) → wp (sd_bnd (sd_isC G 4 (ad 0)) fun _ => sd_bnd f1 fun r3 => if r3 = 0 then (sd_ret 0) else (sd_bnd (sd_getR G 5 15 (ad 20)) fun v4 => sd_bnd (sd_getI G 5 18 (ad 20)) fun v5 => sd_bnd (sd_astI 0 v4 (n3 pt) v5) fun _ => sd_ret 1)) (hMo n ρ ad K (pv v i 0 m) (px (qx x a (upd c pt (n3 m)) f) p q e) y) b Q := by
    intro f1 hf
    rw [wp_bnd, hMo_isC4 E, wp_bnd]
    refine hf m p q e b _ (by omega) ?_
    cases hx : pX κ vl cd i with
    | inr j =>
      rw [hx] at kk
      intro d1 m1 p1 q1 e1
      show wp _ _ b Q
      rw [wp_ite, if_pos rfl, wp_ret]
      exact kk _ _ _ _ _ _ _
    | inl t =>
      obtain ⟨j, w, ks⟩ := t
      rw [hx] at kk oX
      have lj := oX.2.1
      have lw := oX.2.2.1
      show wp _ _ b Q
      rw [wp_ite, if_neg (by decide), wp_bnd, hMo_getR5 E rfl, wp_bnd, hMo_getI5 E rfl, pv_38, wp_bnd]
      simp (disch := omega) only [↓mAr E, mAr E, ↓mAs E, mAs E, qx_35, wp_ret]
      exact kk
  rcases hc with ⟨rfl, rfl⟩ | ⟨rfl, rfl⟩
  · rw [wp_ite, if_pos (show n3 0 = 0 from rfl)]
    exact fin _ (SP.1 i 0 _ 100 eX hi (by omega) (by omega))
  · rw [wp_ite, if_neg (show ¬ n3 1 = 0 by decide)]
    exact fin _ (SP.2.2.2.2.2.1 i 0 _ 100 eX hi (by omega) (by omega))
/-- what is so between lines: os orders read -/
def BS (κ : Nat → Nat) (N : Nat) (os : List Ln) (i m no : Nat) (a c f p q e : Nat → Int32) : Prop := no = os.length ∧ m ≤ i ∧ no ≤ i ∧ OT κ os a c f p q m ∧ ∀ k, i ≤ k → k ≤ N → e k = 0
/-- behind a line -/
def BK1 (κ : Nat → Nat) (N : Nat) (os : List Ln) (l : Ln) (e : Nat → Int32) (m' no' : Nat) (a' c' f' p' q' e' : Nat → Int32) : Prop := BS κ N (if isO (κ l.1) = true then os ++ [l] else os) l.2.1 m' no' a' c' f' p' q' e' ∧ (∀ k, k < l.1 → e' k = e k) ∧ ∀ k, l.1 ≤ k → k < l.2.1 → e' k = mkT κ l k
theorem m_order {os : List Ln} {Q : Int32 → sd_H → Nat × Nat → Prop} (E : mOk n ρ ad) (T : tkX κ vl N x y) (hi : i ≤ N) (hO : isO (κ i) = true) (S : BS κ N os i m no a c f p q e) (kk : match pOrd κ vl i with
    | .inl l => ∀ m' no' a' c' f' p' q' e', BK1 κ N os l e m' no' a' c' f' p' q' e' → Q 1 (hMo n ρ ad K (pv (upd v 12 (n3 no')) l.2.1 0 m') (px (qx x a' c' f') p' q' e') y) b
    | .inr j => ∀ d1 m1 n1 a1 c1 f1 p1 q1 e1, Q 0 (hMo n ρ ad K (pv (upd v 12 (n3 n1)) j d1 m1) (px (qx x a1 c1 f1) p1 q1 e1) y) b) : wp (fX5_isOrder G (ad 0) (ad 20)) (hMo n ρ ad K (pv (upd v 12 (n3 no)) i 0 m) (px (qx x a c f) p q e) y) b Q := by
  have hN := T.1
  have h400 := hN.1
  obtain ⟨s1, s2, s3, s4, s5⟩ := S
  have hO' := hO
  unfold isO at hO'
  simp only [Bool.or_eq_true, decide_eq_true_eq] at hO'
  have hi1 : i + 1 ≤ N := by
    rcases hO' with (e | e) | e <;> exact tk_suc hN hi e (by decide) (by decide)
  have k1000 := (T.2.1 i hi).2
  have r12 : ∀ (β : Type) (k : Int32 → sd_M β) (m0 : Nat) (Q : β → sd_H → Nat × Nat → Prop), wp (sd_bnd (sd_getI G 4 12 (ad 0)) k) (hMo n ρ ad K (pv (upd v 12 (n3 m0)) i 0 m) (px (qx x a c f) p q e) y) b Q = wp (k (n3 m0)) (hMo n ρ ad K (pv (upd v 12 (n3 m0)) i 0 m) (px (qx x a c f) p q e) y) b Q := by
    intro β k m0 Q
    rw [wp_bnd, hMo_getI4 E rfl]
    rfl
  have mn : (if n3 no < (15 : Int32) then n3 no else 15) = n3 (min 15 no) := by
    by_cases c1 : no < 15
    · rw [if_pos (by rw [show (15 : Int32) = n3 15 from rfl, n3_lt (by omega) (by omega)]; exact c1), Nat.min_eq_right (by omega)]
    · rw [if_neg (by rw [show (15 : Int32) = n3 15 from rfl, n3_lt (by omega) (by omega)]; exact c1), Nat.min_eq_left (by omega)]
      rfl
  have ho : min 15 no < 16 := by omega
  have u12 : upd (pv (upd v 12 (n3 no)) i 0 m) 12 (n3 (no + 1)) = pv (upd v 12 (n3 (no + 1))) i 0 m := by
    funext j
    unfold upd pv
    by_cases h : j = 12
    · subst h
      rfl
    · rw [if_neg h]
      by_cases h0 : j = 10
      · rw [if_pos h0, if_pos h0]
      · rw [if_neg h0, if_neg h0]
        by_cases h1 : j = 11
        · rw [if_pos h1, if_pos h1]
        · rw [if_neg h1, if_neg h1]
          by_cases h2 : j = 38
          · rw [if_pos h2, if_pos h2]
          · rw [if_neg h2, if_neg h2]
            show (if j = 12 then n3 no else v j) = (if j = 12 then n3 (no + 1) else v j)
            rw [if_neg h, if_neg h]
  unfold fX5_isOrder
  rw [r12, wp_bnd, j_min, mn, r12, n3_suc, wp_bnd]
  simp (disch := omega) only [↓mFl E, ↓mPu E, u12]
  rw [wp_bnd, hMo_getR5 E rfl, m_kindB E (tkX_q T) hi, wp_bnd]
  simp (disch := omega) only [↓mAr E, mAr E, ↓mAs E, mAs E, qx_33]
  rw [wp_bnd, hMo_getR4 E rfl, wp_bnd, hMo_getI4 E rfl, pv_10, wp_bnd]
  simp (disch := omega) only [↓mAr E, mAr E, ↓mAs E, mAs E, px_7]
  rw [m_tok E, wp_bnd, hMo_isC4 E, show (2 : Int32) * n3 (min 15 no) = n3 (2 * min 15 no) from n3_mul 2 _, show n3 (2 * min 15 no) + 1 = n3 (2 * min 15 no + 1) from n3_suc _, wp_bnd]
  have oX := pX_ok (vl := vl) (c := 0) hN hi1
  have aX := pE_abt 7000 0 (i + 1) 0 _ (pX_eq (vl := vl) (c := 0) hN hi1)
  refine m_prt (tf := 0) (cd := 0) E T hi1 (by omega) (by omega) (Or.inl ⟨rfl, rfl⟩) ?_
  unfold pOrd at kk
  cases hx : pX κ vl 0 (i + 1) with
  | inr j =>
    rw [hx] at kk
    intro d1 m1 p1 q1 e1 c1 f1
    show wp _ _ b Q
    rw [wp_ite, if_pos rfl, wp_ret]
    exact kk _ _ _ _ _ _ _ _ _
  | inl t =>
    obtain ⟨j, w, ks⟩ := t
    rw [hx] at kk oX aX
    have ab1 : ∀ z, z ∈ w → abR z → ∃ k, k ∈ ks ∧ z.2 = n3 k := aX
    obtain ⟨o1, o2, o3, o4⟩ := oX
    have o1 : i + 1 + 1 ≤ j := o1
    show wp _ _ b Q
    rw [wp_ite, if_neg (by decide), wp_bnd, hMo_getR5 E rfl, wp_bnd, hMo_getI5 E rfl, pv_38, wp_bnd]
    simp (disch := omega) only [↓mAr E, mAr E, ↓mAs E, mAs E, qx_34]
    rw [wp_bnd, hMo_getR5 E rfl, wp_bnd, hMo_getI5 E rfl, pv_38, wp_bnd]
    simp (disch := omega) only [↓mAr E, mAr E, ↓mAs E, mAs E, qx_35]
    rw [wp_bnd, hMo_isC4 E, wp_bnd, m_eat (a := 14) (c := 14) rfl (by decide) E (tkX_q T) o2]
    -- what is so behind it, whatever the test is
    have done : ∀ (j' : Nat) (w2 : List (Int32 × Int32)) (ks2 : List Nat) (f2 : Nat → Int32), j ≤ j' → j' ≤ N → (∀ k, k ∈ ks2 → j ≤ k ∧ k < j' ∧ κ k = 30) → w2.length ≤ j' - j → (∀ z, z ∈ w2 → abR z → ∃ k, k ∈ ks2 ∧ z.2 = n3 k) → (f2 (2 * min 15 no + 1) = n3 (m + w.length + w2.length) ∧ ∀ k, k ≠ 2 * min 15 no + 1 → f2 k = upd f (2 * min 15 no) (n3 (m + w.length)) k) → ∀ c2, (c2 (2 * min 15 no + 1) = n3 (m + w.length) ∧ ∀ k, k ≠ 2 * min 15 no + 1 → c2 k = upd c (2 * min 15 no) (n3 m) k) → BK1 κ N os (i, j', w, w2, ks ++ ks2) e (m + w.length + w2.length) (no + 1) (upd a (min 15 no) (n3 (κ i))) c2 f2 (wrA (wrA p m (w.map Prod.fst)) (m + w.length) (w2.map Prod.fst)) (wrA (wrA q m (w.map Prod.snd)) (m + w.length) (w2.map Prod.snd)) (mrk (mrk (upd e i 11) ks) ks2) := by
      intro j' w2 ks2 f2 l1 l2 l3 l4 l5 ⟨lf1, lf2⟩ c2 ⟨lc1, lc2⟩
      have kpp : ∀ k, k < m → wrA (wrA p m (w.map Prod.fst)) (m + w.length) (w2.map Prod.fst) k = p k := fun k hk => by rw [wrA_lt _ _ _ _ (by omega), wrA_lt _ _ _ _ hk]
      have kpq : ∀ k, k < m → wrA (wrA q m (w.map Prod.snd)) (m + w.length) (w2.map Prod.snd) k = q k := fun k hk => by rw [wrA_lt _ _ _ _ (by omega), wrA_lt _ _ _ _ hk]
      refine ⟨⟨?_, ?_, ?_, ?_, ?_⟩, ?_, ?_⟩
      · rw [if_pos hO, List.length_append]
        show no + 1 = os.length + 1
        omega
      · show m + w.length + w2.length ≤ j'
        omega
      · show no + 1 ≤ j'
        omega
      · rw [if_pos hO]
        refine ⟨fun k hk ha => ?_, ?_⟩
        · by_cases c1 : k < m
          · rw [kpp k c1, kpq k c1] at ha
            rw [kpq k c1]
            exact s4.1 k c1 ha
          · by_cases c2 : k < m + w.length
            · obtain ⟨z, hz⟩ : ∃ z, w[k - m]? = some z := ⟨_, List.getElem?_eq_getElem (by omega)⟩
              have r1 := rwA_keep (rwA_wr (p := p) (q := q) (m := m) (w := w)) (Nat.le_refl _) (fun k hk => wrA_lt (w2.map Prod.fst) _ (m + w.length) k hk) (fun k hk => wrA_lt (w2.map Prod.snd) _ (m + w.length) k hk) (k - m) z hz
              rw [show m + (k - m) = k by omega] at r1
              have r1 : wrA (wrA p m (w.map Prod.fst)) (m + w.length) (w2.map Prod.fst) k = z.1 ∧ wrA (wrA q m (w.map Prod.snd)) (m + w.length) (w2.map Prod.snd) k = z.2 := r1
              rw [r1.1, r1.2] at ha
              obtain ⟨kk, k1, k2⟩ := ab1 z (List.mem_of_getElem? hz) ha
              rw [r1.2]
              have := o4 kk k1
              exact ⟨kk, by omega, k2⟩
            · obtain ⟨z, hz⟩ : ∃ z, w2[k - (m + w.length)]? = some z := ⟨_, List.getElem?_eq_getElem (by omega)⟩
              have r1 := rwA_wr (p := wrA p m (w.map Prod.fst)) (q := wrA q m (w.map Prod.snd)) (m := m + w.length) (w := w2) (k - (m + w.length)) z hz
              rw [show m + w.length + (k - (m + w.length)) = k by omega] at r1
              rw [r1.1, r1.2] at ha
              obtain ⟨kk, k1, k2⟩ := l5 z (List.mem_of_getElem? hz) ha
              rw [r1.2]
              have := l3 kk k1
              exact ⟨kk, by omega, k2⟩
        intro h16 k l hk
        rw [List.length_append] at h16
        have h16 : os.length + 1 ≤ 16 := h16
        have mo : min 15 no = os.length := by omega
        by_cases c1 : k < os.length
        · rw [List.getElem?_append_left c1] at hk
          obtain ⟨t1, b0, b1, b2, t2, t3, t4, t5, t6, t7, t8, t9, t10⟩ := s4.2 (by omega) k l hk
          refine ⟨by rw [upd_ne (by omega)]; exact t1, b0, b1, b2, ?_, ?_, ?_, ?_, t6, t7, by omega, rwA_keep t9 (by omega) kpp kpq, rwA_keep t10 (by omega) kpp kpq⟩
          · rw [lc2 _ (by omega), upd_ne (by omega)]
            exact t2
          · rw [lf2 _ (by omega), upd_ne (by omega)]
            exact t3
          · rw [lc2 _ (by omega), upd_ne (by omega)]
            exact t4
          · rw [lf2 _ (by omega), upd_ne (by omega)]
            exact t5
        · have ke : k = os.length := by
            rcases Nat.lt_or_ge k (os.length + 1) with h | h
            · omega
            · rw [List.getElem?_eq_none (by rw [List.length_append]; exact h)] at hk
              cases hk
          subst ke
          rw [List.getElem?_append_right (Nat.le_refl _), Nat.sub_self] at hk
          cases hk
          rw [← mo]
          refine ⟨upd_same _ _ _, m, m + w.length, m + w.length + w2.length, ?_, ?_, lc1, lf1, rfl, rfl, Nat.le_refl _, ?_, rwA_wr⟩
          · rw [lc2 _ (by omega), upd_same]
          · rw [lf2 _ (by omega), upd_same]
          · exact rwA_keep rwA_wr (Nat.le_refl _) (fun k hk => wrA_lt _ _ _ _ hk) (fun k hk => wrA_lt _ _ _ _ hk)
      · intro k h1 h2
        have h1 : j' ≤ k := h1
        rw [mrk_no (e := e), if_neg (fun h => by have := (l3 k h).2.1; omega), mrk_no (e := e), if_neg (fun h => by have := (o4 k h).2.1; omega), upd_ne (by omega)]
        exact s5 k (by omega) h2
      · intro k h1
        have h1 : k < i := h1
        rw [mrk_no (e := e), if_neg (fun h => by have := (l3 k h).1; omega), mrk_no (e := e), if_neg (fun h => by have := (o4 k h).1; omega), upd_ne (by omega)]
      · intro k h1 h2
        have h1 : i ≤ k := h1
        have h2 : k < j' := h2
        unfold mkT
        rw [if_pos hO]
        show _ = if k = i then 11 else if k ∈ ks ++ ks2 then 12 else 0
        rw [mrk_no (e := e), mrk_no (e := e)]
        by_cases c1 : k = i
        · rw [if_pos c1, if_neg (fun h => by have := (l3 k h).1; omega), if_neg (fun h => by have := (o4 k h).1; omega), c1, upd_same]
        · rw [if_neg c1, upd_ne c1]
          by_cases c2 : k ∈ ks2
          · rw [if_pos c2, if_pos (List.mem_append.mpr (Or.inr c2))]
          · rw [if_neg c2]
            by_cases c3 : k ∈ ks
            · rw [if_pos c3, if_pos (List.mem_append.mpr (Or.inl c3))]
            · rw [if_neg c3, if_neg (fun h => (List.mem_append.mp h).elim c3 c2)]
              exact s5 k h1 (by omega)
    by_cases e14 : κ j = 14
    · have hj1 := tk_suc hN o2 e14 (by decide) (by decide)
      have oY := pX_ok (vl := vl) (c := 5) hN hj1
      have aY := pE_abt 7000 5 (j + 1) 0 _ (pX_eq (vl := vl) (c := 5) hN hj1)
      rw [if_pos e14, wp_ite, if_neg (by decide), wp_bnd, hMo_isC4 E, wp_bnd]
      refine m_prt (tf := 1) (cd := 5) E T hj1 (by omega) (by omega) (Or.inr ⟨rfl, rfl⟩) ?_
      simp only [e14, ↓reduceIte] at kk
      cases hx2 : pX κ vl 5 (j + 1) with
      | inr j2 =>
        rw [hx2] at kk
        intro d1 m1 p1 q1 e1 c1 f1
        show wp _ _ b Q
        rw [wp_ite, if_pos rfl, wp_ret]
        exact kk _ _ _ _ _ _ _ _ _
      | inl t2 =>
        obtain ⟨j2, w2, ks2⟩ := t2
        rw [hx2] at kk oY aY
        obtain ⟨y1, y2, y3, y4⟩ := oY
        have y1 : j + 1 + 1 ≤ j2 := y1
        show wp _ _ b Q
        rw [wp_ite, if_neg (by decide), wp_ret]
        refine kk _ _ _ _ _ _ _ _ (done j2 w2 ks2 _ (by omega) y2 (fun k hk => ?_) (by omega) aY ⟨upd_same _ _ _, fun k hk => ?_⟩ _ ⟨upd_same _ _ _, fun k hk => ?_⟩)
        · have := y4 k hk
          exact ⟨by omega, this.2.1, this.2.2⟩
        · rw [upd_ne hk, upd_ne hk]
        · rw [upd_ne hk, upd_ne hk]
    · rw [if_neg e14, wp_ite, if_pos rfl, wp_ret]
      simp only [e14, ↓reduceIte] at kk
      have := done j [] [] _ (Nat.le_refl _) o2 (fun k hk => by cases hk) (by show 0 ≤ _; omega) (fun z hz => by cases hz) ⟨upd_same _ _ _, fun k hk => upd_ne hk⟩ _ ⟨upd_same _ _ _, fun k hk => upd_ne hk⟩
      rw [List.append_nil] at this
      exact kk _ _ _ _ _ _ _ _ this
end MBO
