/-! THE PLAIN LAW: the model reads lines and the book -/
def flO (κ : Nat → Nat) (L : List Ln) : List Ln := L.filter (fun l => isO (κ l.1))
/-- lines one behind another -/
def chL : Nat → List Ln → Nat → Prop
  | i, [], t => i = t
  | i, l :: r, t => l.1 = i ∧ i < l.2.1 ∧ chL (l.2.1 + 1) r t
section MBL
variable {n : Nat} {ρ : Nat → Option Nat} {ad : Nat → Nat} {K : Nat → Option sd_E} {v : Nat → Int32} {x : Nat → Nat → Int32} {y : Nat → Nat → Int64} {G : sd_G} {b : Nat × Nat} {κ : Nat → Nat} {vl : Nat → Int32} {N : Nat} {i m no : Nat} {p q e a c f : Nat → Int32}
theorem m_tml {os : List Ln} {cs : List (Nat × Option Int32)} {c0 : Nat} {fn : sd_M Int32} {Q : Int32 → sd_H → Nat × Nat → Prop} (T : tkX κ vl N x y) (hi : i ≤ N) (h0 : κ i = c0) (ho : isO (κ i) = false) (hc0 : c0 ≠ 32 ∧ c0 ≠ 33) (hcs : ∃ z r, cs = (c0, z) :: r ∧ csO (κ i) = cs ∧ ∀ c, c ∈ r.map Prod.fst → c ≠ 32 ∧ c ≠ 33) (S : BS κ N os i m no a c f p q e) (hf : mT κ N n ρ ad K (upd v 12 (n3 no)) (qx x a c f) y fn i cs) (kk : match tmL κ i (cs.map Prod.fst).tail with
    | .inl l => ∀ m' no' a' c' f' p' q' e', BK1 κ N os l e m' no' a' c' f' p' q' e' → Q 1 (hMo n ρ ad K (pv (upd v 12 (n3 no')) l.2.1 0 m') (px (qx x a' c' f') p' q' e') y) b
    | .inr j => ∀ d1 m1 n1 a1 c1 f1 p1 q1 e1, Q 0 (hMo n ρ ad K (pv (upd v 12 (n3 n1)) j d1 m1) (px (qx x a1 c1 f1) p1 q1 e1) y) b) : wp fn (hMo n ρ ad K (pv (upd v 12 (n3 no)) i 0 m) (px (qx x a c f) p q e) y) b Q := by
  obtain ⟨z, r, rfl, hcs, hcr⟩ := hcs
  obtain ⟨s1, s2, s3, s4, s5⟩ := S
  have hN := T.1
  refine hf m p q e b Q hi ?_
  have hi1 := tk_suc hN hi h0 hc0.1 hc0.2
  have ht := tmL_ok hN (i := i) hcr hi1
  simp only [List.map_cons, List.tail_cons] at kk
  simp only [List.map_cons, tmp]
  rw [if_pos h0]
  unfold tmL at kk ht
  cases hx : tmp κ (i + 1) (r.map Prod.fst) with
  | inr j =>
    rw [hx] at kk
    intro e1
    exact kk _ _ _ _ _ _ _ _ _
  | inl j =>
    rw [hx] at kk ht
    obtain ⟨t1, t2, t3⟩ := ht
    have hj : j = i + 1 + r.length := by
      have := congrArg (fun l : Ln => l.2.1) t2
      rw [List.length_map] at this
      exact this
    obtain ⟨-, t4, t5, -⟩ := t1
    have t4 : i < j := t4
    have t5 : j ≤ N := t5
    refine kk m no a c f p q _ ⟨⟨?_, by show m ≤ j; omega, by show no ≤ j; omega, ?_, fun k h1 h2 => ?_⟩, fun k h1 => ?_, fun k h1 h2 => ?_⟩
    · show no = (if isO (κ i) = true then os ++ [_] else os).length
      rw [ho, if_neg (by decide)]
      exact s1
    · show OT κ (if isO (κ i) = true then os ++ [_] else os) a c f p q m
      rw [ho, if_neg (by decide)]
      exact s4
    · have h1 : j ≤ k := h1
      rw [mkL_out _ _ _ _ (Or.inr (by rw [List.length_cons]; omega))]
      exact s5 k (by omega) h2
    · exact mkL_out _ _ _ _ (Or.inl h1)
    · have h1 : i ≤ k := h1
      have h2 : k < j := h2
      unfold mkT
      show _ = if isO (κ i) = true then _ else mkL (fun _ => 0) i (csO (κ i)) k
      rw [ho, if_neg (by decide), hcs]
      obtain ⟨t, rfl⟩ : ∃ t, k = i + t := ⟨k - i, by omega⟩
      have hlt : t < ((c0, z) :: r).length := by
        rw [List.length_cons]
        omega
      obtain ⟨cz, hcz⟩ : ∃ cz, ((c0, z) :: r)[t]? = some cz := ⟨_, List.getElem?_eq_getElem hlt⟩
      obtain ⟨c1, z1⟩ := cz
      rw [mkL_at _ _ _ _ _ _ hcz, mkL_at _ _ _ _ _ _ hcz, s5 (i + t) (by omega) (by omega)]
theorem m_line {os : List Ln} {Q : Int32 → sd_H → Nat × Nat → Prop} (E : mOk n ρ ad) (T : tkX κ vl N x y) (hi : i ≤ N) (S : BS κ N os i m no a c f p q e) (kk : match pLin κ vl i with
    | .inl l => ∀ m' no' a' c' f' p' q' e', BK1 κ N os l e m' no' a' c' f' p' q' e' → Q 1 (hMo n ρ ad K (pv (upd v 12 (n3 no')) l.2.1 0 m') (px (qx x a' c' f') p' q' e') y) b
    | .inr j => ∀ d1 m1 n1 a1 c1 f1 p1 q1 e1, Q 0 (hMo n ρ ad K (pv (upd v 12 (n3 n1)) j d1 m1) (px (qx x a1 c1 f1) p1 q1 e1) y) b) : wp (fX5_isLine G (ad 0) (ad 20)) (hMo n ρ ad K (pv (upd v 12 (n3 no)) i 0 m) (px (qx x a c f) p q e) y) b Q := by
  have k1000 := (T.2.1 i hi).2
  have ne : ∀ {cc : Nat}, cc < 1000 → κ i ≠ cc → ¬ n3 (κ i) = n3 cc := by
    intro cc hc h
    rw [n3_eq (by omega) (by omega)]
    exact h
  have T' : tkX κ vl N (qx x a c f) y := T
  unfold fX5_isLine
  rw [m_kindB E T' hi]
  unfold pLin at kk
  have ord : isO (κ i) = true → wp (sd_bnd (sd_isC G 4 (ad 0)) fun _ => sd_bnd (fX5_isOrder G (ad 0) (ad 20)) fun r4 => sd_retN .boolean r4) (hMo n ρ ad K (pv (upd v 12 (n3 no)) i 0 m) (px (qx x a c f) p q e) y) b Q := by
    intro hO
    have hO' := hO
    unfold isO at hO'
    simp only [Bool.or_eq_true, decide_eq_true_eq] at hO'
    rw [if_pos (by rcases hO' with (h | h) | h <;> simp [h])] at kk
    rw [wp_bnd, hMo_isC4 E, wp_bnd]
    refine m_order E T hi hO S ?_
    cases hx : pOrd κ vl i with
    | inr j =>
      rw [hx] at kk
      intro d1 m1 n1 a1 c1 f1 p1 q1 e1
      show wp (sd_retN .boolean 0) _ b Q
      rw [wp_retN nar_b0]
      exact kk _ _ _ _ _ _ _ _ _
    | inl l =>
      rw [hx] at kk
      intro m' no' a' c' f' p' q' e' h
      show wp (sd_retN .boolean 1) _ b Q
      rw [wp_retN nar_b1]
      exact kk _ _ _ _ _ _ _ _ h
  rw [wp_ite]
  by_cases e11 : κ i = 11
  · rw [if_pos (show n3 (κ i) = 11 from by rw [e11]; rfl)]
    exact ord (by rw [e11]; rfl)
  · rw [if_neg (show ¬ n3 (κ i) = 11 from ne (cc := 11) (by decide) e11), wp_ite]
    by_cases e12 : κ i = 12
    · rw [if_pos (show n3 (κ i) = 12 from by rw [e12]; rfl)]
      exact ord (by rw [e12]; rfl)
    · rw [if_neg (show ¬ n3 (κ i) = 12 from ne (cc := 12) (by decide) e12), wp_ite]
      by_cases e13 : κ i = 13
      · rw [if_pos (show n3 (κ i) = 13 from by rw [e13]; rfl)]
        exact ord (by rw [e13]; rfl)
      · rw [if_neg (show ¬ n3 (κ i) = 13 from ne (cc := 13) (by decide) e13)]
        rw [if_neg (fun h => by rcases h with h | h | h; exact e11 h; exact e12 h; exact e13 h)] at kk
        have ho : isO (κ i) = false := by
          unfold isO
          rw [decide_eq_false e11, decide_eq_false e12, decide_eq_false e13]
          rfl
        rw [wp_ite]
        by_cases e2 : κ i = 2
        · rw [if_pos e2] at kk
          rw [if_pos (show n3 (κ i) = 2 from by rw [e2]; rfl)]
          refine m_tml (cs := [(2, none), (30, some 3), (3, none), (31, some 4), (4, none), (31, some 5)]) T hi e2 ho (by decide) ⟨_, _, rfl, by rw [e2]; rfl, by decide⟩ S ?_ kk
          exact mT_eat (c := 2) rfl (by decide) (by decide) (by decide) E T' (mT_as (c := 30) rfl (by decide) (by decide) (by decide) E T' (mT_eat (c := 3) rfl (by decide) (by decide) (by decide) E T' (mT_as (c := 31) rfl (by decide) (by decide) (by decide) E T' (mT_eat (c := 4) rfl (by decide) (by decide) (by decide) E T' (mT_as (c := 31) rfl (by decide) (by decide) (by decide) E T' mT_nil)))))
        · rw [if_neg e2] at kk
          rw [if_neg (show ¬ n3 (κ i) = 2 from ne (cc := 2) (by decide) e2), wp_ite]
          by_cases e7 : κ i = 7
          · rw [if_pos e7] at kk
            rw [if_pos (show n3 (κ i) = 7 from by rw [e7]; rfl)]
            refine m_tml (cs := [(7, some 0), (8, none), (31, some 7), (44, none), (31, some 8)]) T hi e7 ho (by decide) ⟨_, _, rfl, by rw [e7]; rfl, by decide⟩ S ?_ kk
            exact mT_as (c := 7) rfl (by decide) (by decide) (by decide) E T' (mT_pla E T' mT_nil)
          · rw [if_neg e7] at kk
            rw [if_neg (show ¬ n3 (κ i) = 7 from ne (cc := 7) (by decide) e7), wp_ite]
            by_cases e5 : κ i = 5
            · rw [if_pos e5] at kk
              rw [if_pos (show n3 (κ i) = 5 from by rw [e5]; rfl)]
              refine m_tml (cs := [(5, some 6), (8, none), (31, some 7), (44, none), (31, some 8), (9, none), (31, some 9)]) T hi e5 ho (by decide) ⟨_, _, rfl, by rw [e5]; rfl, by decide⟩ S ?_ kk
              exact mT_as (c := 5) rfl (by decide) (by decide) (by decide) E T' (mT_pla E T' (mT_eat (c := 9) rfl (by decide) (by decide) (by decide) E T' (mT_as (c := 31) rfl (by decide) (by decide) (by decide) E T' mT_nil)))
            · rw [if_neg e5] at kk
              rw [if_neg (show ¬ n3 (κ i) = 5 from ne (cc := 5) (by decide) e5), wp_ite]
              by_cases e6 : κ i = 6
              · rw [if_pos e6] at kk
                rw [if_pos (show n3 (κ i) = 6 from by rw [e6]; rfl)]
                refine m_tml (cs := [(6, some 6), (8, none), (31, some 7), (44, none), (31, some 8), (10, none), (30, some 10)]) T hi e6 ho (by decide) ⟨_, _, rfl, by rw [e6]; rfl, by decide⟩ S ?_ kk
                exact mT_as (c := 6) rfl (by decide) (by decide) (by decide) E T' (mT_pla E T' (mT_eat (c := 10) rfl (by decide) (by decide) (by decide) E T' (mT_as (c := 30) rfl (by decide) (by decide) (by decide) E T' mT_nil)))
              · rw [if_neg e6] at kk
                rw [if_neg (show ¬ n3 (κ i) = 6 from ne (cc := 6) (by decide) e6), wp_ret]
                exact kk _ _ _ _ _ _ _ _ _
/-- what is so behind all lines -/
def BKA (κ : Nat → Nat) (N : Nat) (os : List Ln) (i : Nat) (L : List Ln) (t : Nat) (e : Nat → Int32) (m' no' : Nat) (a' c' f' p' q' e' : Nat → Int32) : Prop := chL i L t ∧ t ≤ N ∧ κ t = 33 ∧ BS κ N (os ++ flO κ L) t m' no' a' c' f' p' q' e' ∧ (∀ k, k < i → e' k = e k) ∧ ∀ l, l ∈ L → (κ l.2.1 = 59 ∧ e' l.2.1 = 0 ∧ ∀ k, l.1 ≤ k → k < l.2.1 → e' k = mkT κ l k)
theorem m_bk (E : mOk n ρ ad) (T : tkX κ vl N x y) : ∀ (fl fu i : Nat) (os : List Ln) (m no : Nat) (a c f p q e : Nat → Int32) (Q : Int32 → sd_H → Nat × Nat → Prop), i ≤ N → N - i < fl → N - i < fu → BS κ N os i m no a c f p q e → (match pBk κ vl fl i with
    | .inl L => ∀ t m' no' a' c' f' p' q' e', BKA κ N os i L t e m' no' a' c' f' p' q' e' → Q 1 (hMo n ρ ad K (pv (upd v 12 (n3 no')) t 0 m') (px (qx x a' c' f') p' q' e') y) b
    | .inr j => ∀ d1 m1 n1 a1 c1 f1 p1 q1 e1, Q 0 (hMo n ρ ad K (pv (upd v 12 (n3 n1)) j d1 m1) (px (qx x a1 c1 f1) p1 q1 e1) y) b) → wp (sd_loop (fun k s => fX5_isBook_b47 G k s.1 s.2) fu (ad 0, ad 20)) (hMo n ρ ad K (pv (upd v 12 (n3 no)) i 0 m) (px (qx x a c f) p q e) y) b Q := by
  intro fl
  induction fl with
  | zero => intro fu i os m no a c f p q e Q _ h; omega
  | succ fl ih =>
    intro fu i os m no a c f p q e Q hi h1 h2 S kk
    obtain ⟨fu, rfl⟩ : ∃ q, fu = q + 1 := ⟨fu - 1, by omega⟩
    have hN := T.1
    have T' : tkX κ vl N (qx x a c f) y := T
    have k1000 := (T.2.1 i hi).2
    show wp (fX5_isBook_b47 G (sd_loop (fun k s => fX5_isBook_b47 G k s.1 s.2) fu) (ad 0) (ad 20)) _ b Q
    rw [fX5_isBook_b47, m_kindB E T' hi, wp_ite]
    simp only [pBk] at kk
    by_cases e33 : κ i = 33
    · rw [if_pos e33] at kk
      rw [if_pos (show n3 (κ i) = 33 from by rw [e33]; rfl), wp_ret]
      refine kk i m no a c f p q e ⟨rfl, hi, e33, ?_, fun _ _ => rfl, fun l hl => by cases hl⟩
      show BS κ N (os ++ []) i m no a c f p q e
      rw [List.append_nil]
      exact S
    · rw [if_neg e33] at kk
      rw [if_neg (show ¬ n3 (κ i) = 33 from by rw [show (33 : Int32) = n3 33 from rfl, n3_eq (by omega) (by omega)]; exact e33), wp_bnd, hMo_isC4 E, wp_bnd]
      refine m_line E T hi S ?_
      have hl := pLin_ok (vl := vl) hN hi
      cases hx : pLin κ vl i with
      | inr j =>
        rw [hx] at kk
        intro d1 m1 n1 a1 c1 f1 p1 q1 e1
        show wp _ _ b Q
        rw [wp_ite, if_pos rfl, wp_ret]
        exact kk _ _ _ _ _ _ _ _ _
      | inl l =>
        rw [hx] at kk hl
        obtain ⟨l1, l2, l3, -⟩ := hl
        intro m' no' a' c' f' p' q' e' ⟨S', k1, k2⟩
        have T2 : tkX κ vl N (qx x a' c' f') y := T
        show wp _ _ b Q
        rw [wp_ite, if_neg (by decide), wp_bnd, hMo_isC4 E, wp_bnd, m_eat (a := 59) (c := 59) rfl (by decide) E T2 l3]
        by_cases e59 : κ l.2.1 = 59
        · have s1 := tk_suc hN l3 e59 (by decide) (by decide)
          simp only [e59, ↓reduceIte] at kk
          rw [if_pos e59, wp_ite, if_neg (by decide)]
          obtain ⟨t1, t2, t3, t4, t5⟩ := S'
          refine ih fu (l.2.1 + 1) (if isO (κ l.1) = true then os ++ [l] else os) m' no' a' c' f' p' q' e' Q s1 (by omega) (by omega) ⟨t1, by omega, by omega, t4, fun k h3 h4 => t5 k (by omega) h4⟩ ?_
          cases hr : pBk κ vl fl (l.2.1 + 1) with
          | inr j =>
            rw [hr] at kk
            exact kk
          | inl L =>
            rw [hr] at kk
            intro t m2 no2 a2 c2 f2 p2 q2 e2 ⟨u1, u2, u3, u4, u5, u6⟩
            refine kk t m2 no2 a2 c2 f2 p2 q2 e2 ⟨⟨l1, l2, u1⟩, u2, u3, ?_, fun k h3 => ?_, fun l' hl' => ?_⟩
            · have : os ++ flO κ (l :: L) = (if isO (κ l.1) = true then os ++ [l] else os) ++ flO κ L := by
                unfold flO
                rw [List.filter_cons]
                by_cases c1 : isO (κ l.1) = true
                · rw [if_pos c1, if_pos c1, List.append_assoc]
                  rfl
                · rw [if_neg c1, if_neg c1]
              rw [this]
              exact u4
            · rw [u5 k (by omega), k1 k (by omega)]
            · rw [List.mem_cons] at hl'
              rcases hl' with rfl | hl'
              · refine ⟨e59, ?_, fun k h3 h4 => ?_⟩
                · rw [u5 _ (Nat.lt_succ_self _)]
                  exact t5 _ (Nat.le_refl _) l3
                · rw [u5 k (by omega)]
                  exact k2 k h3 h4
              · exact u6 l' hl'
        · simp only [e59, ↓reduceIte] at kk
          rw [if_neg e59, wp_ite, if_pos rfl, wp_ret]
          exact kk _ _ _ _ _ _ _ _ _
/-- the whole book -/
theorem m_book {Q : Int32 → sd_H → Nat × Nat → Prop} (E : mOk n ρ ad) (T : tkX κ vl N x y) (h0 : ∀ k, k ≤ N → e k = 0) (kk : match pBook κ vl with
    | .inl L => ∀ i0 t m' no' a' c' f' p' q' e', pHd κ = .inl i0 → (i0 = 5 → e' 0 = 0 ∧ e' 1 = 1 ∧ e' 2 = 0 ∧ e' 3 = 2 ∧ e' 4 = 0) → BKA κ N [] i0 L t e' m' no' a' c' f' p' q' e' → Q 1 (hMo n ρ ad K (pv (upd v 12 (n3 no')) t 0 m') (px (qx x a' c' f') p' q' e') y) b
    | .inr j => ∀ d1 m1 n1 a1 c1 f1 p1 q1 e1, Q 0 (hMo n ρ ad K (pv (upd v 12 (n3 n1)) j d1 m1) (px (qx x a1 c1 f1) p1 q1 e1) y) b) : wp (fX5_isBook G (ad 0) (ad 20)) (hMo n ρ ad K (pv (upd v 12 (n3 0)) 0 0 0) (px (qx x a c f) p q e) y) b Q := by
  have hN := T.1
  have h400 := hN.1
  have T' : tkX κ vl N (qx x a c f) y := T
  have ot : ∀ a c f p q, OT κ [] a c f p q 0 := fun _ _ _ _ _ => ⟨fun k hk => absurd hk (Nat.not_lt_zero _), fun _ k l hk => by cases hk⟩
  have hh := pHd_ok hN
  unfold fX5_isBook
  rw [wp_bnd, hMo_isC4 E, wp_bnd, m_eat (a := 0) (c := 0) rfl (by decide) E T' (Nat.zero_le _)]
  unfold pBook at kk
  by_cases c0 : κ 0 = 0
  · rw [if_pos c0, wp_ite, if_neg (by decide)]
    have i1 := tk_suc hN (Nat.zero_le _) c0 (by decide) (by decide)
    have key : mT κ N n ρ ad K (upd v 12 (n3 0)) (qx x a c f) y (sd_bnd (sd_isC G 4 (ad 0)) fun _ => sd_bnd (fX5_eatAs G (ad 0) 31 1) fun r9 => if r9 = 0 then (sd_ret 0) else (sd_bnd (sd_isC G 4 (ad 0)) fun _ => sd_bnd (fX5_eat G (ad 0) 1) fun r9 => if r9 = 0 then (sd_ret 0) else (sd_bnd (sd_isC G 4 (ad 0)) fun _ => sd_bnd (fX5_eatAs G (ad 0) 31 2) fun r9 => if r9 = 0 then (sd_ret 0) else (sd_bnd (sd_isC G 4 (ad 0)) fun _ => sd_bnd (fX5_eat G (ad 0) 59) fun r9 => if r9 = 0 then (sd_ret 0) else (sd_ret 1))))) 1 [(31, some 1), (1, none), (31, some 2), (59, none)] := mT_as (c := 31) rfl (by decide) (by decide) (by decide) E T' (mT_eat (c := 1) rfl (by decide) (by decide) (by decide) E T' (mT_as (c := 31) rfl (by decide) (by decide) (by decide) E T' (mT_eat (c := 59) rfl (by decide) (by decide) (by decide) E T' mT_nil)))
    have hd : pHd κ = tmp κ 1 [31, 1, 31, 59] := if_pos c0
    rw [hd] at kk hh
    have := key 0 p q e b (fun r h1 b1 => wp (if r = 0 then sd_ret 0 else sd_loop (fun k s => fX5_isBook_b47 G k s.1 s.2) sd_FU (ad 0, ad 20)) h1 b1 Q) i1 ?_
    · rw [wp_bnd] at this ⊢
      refine wp_mono this (fun _ h1 b1 w1 => ?_)
      rw [wp_bnd] at w1 ⊢
      refine wp_mono w1 (fun a h1 b1 w1 => ?_)
      rw [wp_ite] at w1 ⊢
      by_cases z0 : a = 0
      · rw [if_pos z0] at w1 ⊢
        rw [wp_ret, wp_ite, if_pos rfl] at w1
        exact w1
      · rw [if_neg z0] at w1 ⊢
        rw [wp_bnd] at w1 ⊢
        refine wp_mono w1 (fun _ h1 b1 w1 => ?_)
        rw [wp_bnd] at w1 ⊢
        refine wp_mono w1 (fun a h1 b1 w1 => ?_)
        rw [wp_ite] at w1 ⊢
        by_cases z0 : a = 0
        · rw [if_pos z0] at w1 ⊢
          rw [wp_ret, wp_ite, if_pos rfl] at w1
          exact w1
        · rw [if_neg z0] at w1 ⊢
          rw [wp_bnd] at w1 ⊢
          refine wp_mono w1 (fun _ h1 b1 w1 => ?_)
          rw [wp_bnd] at w1 ⊢
          refine wp_mono w1 (fun a h1 b1 w1 => ?_)
          rw [wp_ite] at w1 ⊢
          by_cases z0 : a = 0
          · rw [if_pos z0] at w1 ⊢
            rw [wp_ret, wp_ite, if_pos rfl] at w1
            exact w1
          · rw [if_neg z0] at w1 ⊢
            rw [wp_bnd] at w1 ⊢
            refine wp_mono w1 (fun _ h1 b1 w1 => ?_)
            rw [wp_bnd] at w1 ⊢
            refine wp_mono w1 (fun a h1 b1 w1 => ?_)
            rw [wp_ite] at w1 ⊢
            by_cases z0 : a = 0
            · rw [if_pos z0] at w1 ⊢
              rw [wp_ret, wp_ite, if_pos rfl] at w1
              exact w1
            · rw [if_neg z0] at w1 ⊢
              rw [wp_ret, wp_ite, if_neg (by decide)] at w1
              exact w1
    · show match tmp κ 1 [31, 1, 31, 59] with
        | .inl j => _
        | .inr j => _
      cases ht : tmp κ 1 [31, 1, 31, 59] with
      | inr j =>
        rw [ht] at kk
        intro e1
        show wp _ _ b Q
        rw [wp_ite, if_pos rfl, wp_ret]
        exact kk _ _ _ _ _ _ _ _ _
      | inl j =>
        rw [ht] at kk hh
        obtain ⟨hj, hj2⟩ := hh
        have j5 : j = 5 := by
          have := tmp_ok hN [31, 1, 31, 59] 1 (by decide) i1
          rw [ht] at this
          exact this.1
        subst j5
        show wp _ _ b Q
        rw [wp_ite, if_neg (by decide)]
        refine m_bk E T 401 sd_FU 5 [] 0 0 a c f p q _ Q hj (by omega) (by unfold sd_FU; omega) ⟨rfl, by omega, by omega, ot _ _ _ _ _, fun k h1 h2 => ?_⟩ ?_
        · rw [mkL_out _ _ _ _ (Or.inr (by show 1 + 4 ≤ k; omega))]
          exact h0 k h2
        · cases hb : pBk κ vl 401 5 with
          | inr j =>
            simp only [hb] at kk
            exact kk
          | inl L =>
            simp only [hb] at kk
            intro t m' no' a' c' f' p' q' e' ⟨u1, u2, u3, u4, u5, u6⟩
            refine kk 5 t m' no' a' c' f' p' q' e' rfl (fun _ => ?_) ⟨u1, u2, u3, u4, fun _ _ => rfl, u6⟩
            have z := fun k (hk : k ≤ 4) => h0 k (by omega)
            rw [u5 0 (by omega), u5 1 (by omega), u5 2 (by omega), u5 3 (by omega), u5 4 (by omega)]
            refine ⟨?_, mkL_at _ e 1 0 31 (some 1) rfl, ?_, mkL_at _ e 1 2 31 (some 2) rfl, ?_⟩
            · rw [mkL_out _ _ _ _ (Or.inl (by omega))]
              exact z 0 (by omega)
            · rw [show (2 : Nat) = 1 + 1 from rfl, mkL_at _ e 1 1 1 none rfl]
              exact z 2 (by omega)
            · rw [show (4 : Nat) = 1 + 3 from rfl, mkL_at _ e 1 3 59 none rfl]
              exact z 4 (by omega)
  · rw [if_neg c0, wp_ite, if_pos rfl]
    have hd : pHd κ = .inl 0 := if_neg c0
    rw [hd] at kk
    refine m_bk E T 401 sd_FU 0 [] 0 0 a c f p q e Q (Nat.zero_le _) (by omega) (by unfold sd_FU; omega) ⟨rfl, by omega, by omega, ot _ _ _ _ _, fun k h1 h2 => h0 k h2⟩ ?_
    cases hb : pBk κ vl 401 0 with
    | inr j =>
      simp only [hb] at kk
      exact kk
    | inl L =>
      simp only [hb] at kk
      intro t m' no' a' c' f' p' q' e' ⟨u1, u2, u3, u4, u5, u6⟩
      exact kk 0 t m' no' a' c' f' p' q' e' rfl (fun h => by cases h) ⟨u1, u2, u3, u4, fun _ _ => rfl, u6⟩
end MBL
