/-! THE PLAIN LAW: orders of the component -/
/-- at most three props -/
def ok3 (t : TT) : Prop := bitc (t.1 4) < 4
theorem bitc_or : ∀ ns, ns ≤ 8 → ∀ p, p < 2 ^ ns → ∀ s, s < ns → bitc (n3 p) < 3 → bitc (n3 p ||| ((1 : Int32) <<< (n3 s &&& 31))) < 4 := by
  have key : ∀ p : Fin 256, ∀ s : Fin 8, bitc (n3 p.val) < 3 → bitc (n3 p.val ||| ((1 : Int32) <<< (n3 s.val &&& 31))) < 4 := by decide +kernel
  intro ns hn p hp s hs
  have hp2 : p < 256 := Nat.lt_of_lt_of_le hp (Nat.pow_le_pow_right (n := 2) (by omega) (show ns ≤ 8 from hn))
  exact key ⟨p, hp2⟩ ⟨s, by omega⟩
theorem bitc_an : ∀ ns, ns ≤ 8 → ∀ p, p < 2 ^ ns → ∀ s, s < ns → bitc (n3 p) < 4 → bitc (n3 p &&& (((1 : Int32) <<< (n3 s &&& 31)) ^^^ (-1))) < 4 := by
  have key : ∀ p : Fin 256, ∀ s : Fin 8, bitc (n3 p.val) < 4 → bitc (n3 p.val &&& (((1 : Int32) <<< (n3 s.val &&& 31)) ^^^ (-1))) < 4 := by decide +kernel
  intro ns hn p hp s hs
  have hp2 : p < 256 := Nat.lt_of_lt_of_le hp (Nat.pow_le_pow_right (n := 2) (by omega) (show ns ≤ 8 from hn))
  exact key ⟨p, hp2⟩ ⟨s, by omega⟩
theorem bitc_3 : ∀ ns, ns ≤ 8 → ∀ p, p < 2 ^ ns → bitc (n3 p) < 4 → (bitc (n3 p) = 3) = (¬ bitc (n3 p) < 3) := by
  have key : ∀ p : Fin 256, bitc (n3 p.val) < 4 → decide (bitc (n3 p.val) = 3) = decide (¬ bitc (n3 p.val) < 3) := by decide +kernel
  intro ns hn p hp h
  have hp2 : p < 256 := Nat.lt_of_lt_of_le hp (Nat.pow_le_pow_right (n := 2) (by omega) (show ns ≤ 8 from hn))
  exact propext (decide_eq_decide.mp (key ⟨p, hp2⟩ h))
theorem ok3_carT {q : Nat → Nat} {x : Nat → Nat → Int32} {t u : TT} {o : Int32} {s : Nat} (ok : okT (q 20) (q 26) t) (h3 : ok3 t) (hs : s < q 20) (h : carT q x t o s = some u) : ok3 u := by
  obtain ⟨-, q2, -, -, -, -, p, p1, p2⟩ := ok
  unfold ok3 at *
  unfold carT at h
  split at h
  · split at h
    · cases h
    · cases h
      show bitc ((setl (q 20) (x 31) (dg1 x t s)).1 4) < 4
      rw [setl_nu (by decide)]
      exact h3
  · split at h
    · split at h
      · cases h
      · next c =>
        cases h
        show bitc (t.1 4 ||| ((1 : Int32) <<< (n3 s &&& 31))) < 4
        rw [p1]
        refine bitc_or _ q2 p p2 s hs ?_
        rw [← p1]
        exact Classical.byContradiction fun c2 => c (Or.inr c2)
    · split at h
      · cases h
        show bitc ((setl (q 20) (x 31) (subP t s)).1 4) < 4
        rw [setl_nu (by decide)]
        show bitc (t.1 4 &&& (((1 : Int32) <<< (n3 s &&& 31)) ^^^ (-1))) < 4
        rw [p1] at h3 ⊢
        exact bitc_an _ q2 p p2 s hs h3
      · cases h
theorem ok3_ordT {q : Nat → Nat} {x : Nat → Nat → Int32} {t : TT} {k : Nat} (hP : okP q x) (ok : okT (q 20) (q 26) t) (h3 : ok3 t) : ok3 (ordT q x t k) := by
  show bitc ((carO q x t k).2.1 4) < 4
  unfold carO
  split
  · split
    · next u hu => exact ok3_carT ok h3 (tolS_lt hP).1 hu
    · exact h3
  · exact h3
theorem ok3_ords {q : Nat → Nat} {x : Nat → Nat → Int32} (hP : okP q x) : ∀ r k (t : TT), okT (q 20) (q 26) t → ok3 t → ok3 (ords q x r k t) := by
  intro r
  induction r with
  | zero => intro k t _ h; exact h
  | succ r ih => intro k t h h3; exact ih (k + 1) _ (okT_ordT hP h) (ok3_ordT hP h h3)
theorem ok3_dayT {q : Nat → Nat} {x : Nat → Nat → Int32} {t : TT} (hP : okP q x) (ok : okT (q 20) (q 26) t) (h3 : ok3 t) : ok3 (dayT q x t) := ok3_ords hP _ _ _ ok h3
theorem ok3_dys {q : Nat → Nat} {x : Nat → Nat → Int32} (hP : okP q x) : ∀ m (t : TT), okT (q 20) (q 26) t → ok3 t → ok3 (dys q x m t) := by
  intro m
  induction m with
  | zero => intro t _ h; exact h
  | succ m ih => intro t h h3; exact ih _ (okT_dayT hP h) (ok3_dayT hP h h3)
/-- the rows of a part, as a list -/
def rwL (x : Nat → Nat → Int32) : Nat → Nat → List (Int32 × Int32)
  | 0, _ => []
  | r + 1, i => (x 36 i, x 37 i) :: rwL x r (i + 1)
def prt (x : Nat → Nat → Int32) (p : Nat) : List (Int32 × Int32) := rwL x ((x 35 p).toNatClampNeg - (x 34 p).toNatClampNeg) (x 34 p).toNatClampNeg
theorem evl_rwL {q : Nat → Nat} {x : Nat → Nat → Int32} {t : TT} : ∀ r i st, evl q x t r i st = evlL q x t (rwL x r i) st := by
  intro r
  induction r with
  | zero => intro i st; rfl
  | succ r ih => intro i st; exact ih (i + 1) _
theorem valP_prt {q : Nat → Nat} {x : Nat → Nat → Int32} {t : TT} {p : Nat} : valP q x t p = hdV (evlL q x t (prt x p) []) := by
  unfold valP prt
  rw [evl_rwL]
/-- the list of orders outside -/
def imZ (G : sd_G) (n : Nat) (ρ : Nat → Option Nat) (K : Nat → Option sd_E) (Z : Nat → Prop) (a : Nat) (e : sd_E) : Prop := im G n ρ K a e ∧ Z a
/-- Z: where orders and their trees lie; nothing there is ever changed -/
def sO (G : sd_G) (n : Nat) (ρ : Nat → Option Nat) (K : Nat → Option sd_E) (Z : Nat → Prop) (F : Nat → Nat) (q : Nat → Nat) (x : Nat → Nat → Int32) : Prop := ∃ m r c f, im G n ρ K (F 5) (aL m r (q 32)) ∧ im G n ρ K r (aR c f) ∧ q 32 ≤ c ∧ c ≤ 1000 ∧ ∀ k, k < q 32 → ∃ a cr se te j, f k = some a ∧ imZ G n ρ K Z a (.inr (17, [.ref cr, .ref se, .ref te])) ∧ j < 3 ∧ imZ G n ρ K Z cr (.inr (30 + j, [])) ∧ x 33 k = n3 (11 + j) ∧ isSm (q 22) (imZ G n ρ K Z) 420 9 se (prt x (2 * k)) ∧ (isTs (q 22) (imZ G n ρ K Z) 39 te (prt x (2 * k + 1)) ∨ (imZ G n ρ K Z te (.inr (23, [])) ∧ prt x (2 * k + 1) = []))
def XT (n : Nat) (ρ : Nat → Option Nat) (K : Nat → Option sd_E) (ad : Nat → Nat) (em : Nat → Bool) (n' : Nat) (ρ' : Nat → Option Nat) (K' : Nat → Option sd_E) (ad' : Nat → Nat) (em' : Nat → Bool) : Prop := xt n ρ ad em n' ρ' ad' em' ∧ ∀ a, a < n → K' a = K a
theorem im_X {G : sd_G} {n n' : Nat} {ρ ρ' : Nat → Option Nat} {K K' : Nat → Option sd_E} {ad ad' : Nat → Nat} {em em' : Nat → Bool} {a : Nat} {e : sd_E} (X : XT n ρ K ad em n' ρ' K' ad' em') (h : im G n ρ K a e) : im G n' ρ' K' a e := ⟨(X.1.2.1 a h.2.1).trans h.1, Nat.lt_of_lt_of_le h.2.1 X.1.1, by rw [X.2 a h.2.1]; exact h.2.2⟩
theorem XT.trans {n n' n'' : Nat} {ρ ρ' ρ'' : Nat → Option Nat} {K K' K'' : Nat → Option sd_E} {ad ad' ad'' : Nat → Nat} {em em' em'' : Nat → Bool} (h : XT n ρ K ad em n' ρ' K' ad' em') (h' : XT n' ρ' K' ad' em' n'' ρ'' K'' ad'' em'') : XT n ρ K ad em n'' ρ'' K'' ad'' em'' := ⟨h.1.trans h'.1, fun a ha => (h'.2 a (Nat.lt_of_lt_of_le ha h.1.1)).trans (h.2 a ha)⟩
theorem XT.refl {n : Nat} {ρ : Nat → Option Nat} {K : Nat → Option sd_E} {ad : Nat → Nat} {em : Nat → Bool} : XT n ρ K ad em n ρ K ad em := ⟨xt.refl, fun _ _ => rfl⟩
theorem imZ_X {G : sd_G} {n n' : Nat} {ρ ρ' : Nat → Option Nat} {K K' : Nat → Option sd_E} {ad ad' : Nat → Nat} {em em' : Nat → Bool} {Z : Nat → Prop} {a : Nat} {e : sd_E} (X : XT n ρ K ad em n' ρ' K' ad' em') (h : imZ G n ρ K Z a e) : imZ G n' ρ' K' Z a e := ⟨im_X X h.1, h.2⟩
theorem sO_mo {G : sd_G} {n n' : Nat} {ρ ρ' : Nat → Option Nat} {K K' : Nat → Option sd_E} {F F' : Nat → Nat} {Z : Nat → Prop} {q : Nat → Nat} {x : Nat → Nat → Int32} (mo : ∀ a e, imZ G n ρ K Z a e → imZ G n' ρ' K' Z a e) (h : sO G n ρ K Z F q x) (hl : ∀ m r c f, im G n ρ K (F 5) (aL m r (q 32)) → im G n ρ K r (aR c f) → q 32 ≤ c → c ≤ 1000 → ∃ m' r' c' f', im G n' ρ' K' (F' 5) (aL m' r' (q 32)) ∧ im G n' ρ' K' r' (aR c' f') ∧ q 32 ≤ c' ∧ c' ≤ 1000 ∧ ∀ k, k < q 32 → f' k = f k) : sO G n' ρ' K' Z F' q x := by
  obtain ⟨m, r, c, f, h1, h2, h3, h4, h5⟩ := h
  obtain ⟨m', r', c', f', h1', h2', h3', h4', h6⟩ := hl m r c f h1 h2 h3 h4
  refine ⟨m', r', c', f', h1', h2', h3', h4', fun k hk => ?_⟩
  obtain ⟨a, cr, se, te, j, k1, k2, k3, k4, k5, k6, k7⟩ := h5 k hk
  refine ⟨a, cr, se, te, j, (h6 k hk).trans k1, mo _ _ k2, k3, mo _ _ k4, k5, isSm_mono mo (Nat.le_refl _) _ _ _ _ _ _ (Nat.le_refl _) (Nat.le_refl _) k6, ?_⟩
  rcases k7 with k7 | ⟨k7, k8⟩
  · exact Or.inl (isTs_mono mo (Nat.le_refl _) _ _ _ _ (Nat.le_refl _) k7)
  · exact Or.inr ⟨mo _ _ k7, k8⟩
theorem sO_X {G : sd_G} {n n' : Nat} {ρ ρ' : Nat → Option Nat} {K K' : Nat → Option sd_E} {ad ad' F : Nat → Nat} {em em' : Nat → Bool} {Z : Nat → Prop} {q : Nat → Nat} {x : Nat → Nat → Int32} (X : XT n ρ K ad em n' ρ' K' ad' em') (h : sO G n ρ K Z F q x) : sO G n' ρ' K' Z F q x := sO_mo (fun _ _ h => imZ_X X h) h (fun m r c f h1 h2 h3 h4 => ⟨m, r, c, f, im_X X h1, im_X X h2, h3, h4, fun _ _ => rfl⟩)
section SC
variable {G : sd_G} {n : Nat} {ρ : Nat → Option Nat} {K : Nat → Option sd_E} {ad F : Nat → Nat} {q : Nat → Nat} {x : Nat → Nat → Int32} {mc : Nat → Int32} {em cs : Nat → Bool} {t : TT} {b : Nat × Nat}
theorem sA_nu4 {z : Int32} (A : sA G n ρ K ad F q x em cs t) (h : ∃ p, z = n3 p ∧ p < 2 ^ (q 20)) : sA G n ρ K ad F q x em cs (numT t 4 z) := by
  obtain ⟨A1, A2, A3, A4, q1, q2, q3, q4, q5, q6, q7⟩ := A
  obtain ⟨p, p1, p2⟩ := h
  exact ⟨A1, A2, A3, A4, q1, q2, q3, q4, q5, q6, p, p1, p2⟩
theorem s_prop {s : Nat} {Q : Int32 → sd_H → Nat × Nat → Prop} (A : sA G n ρ K ad F q x em cs t) (h3 : ok3 t) (hs : s < q 20) : wp (fX3_prop G (ad 0) (n3 s)) (hSo G n ρ K ad F q x mc em t) b Q = if isP t s = true ∨ ¬ bitc (t.1 4) < 3 then Q 0 (hSo G n ρ K ad F q x mc em t) b else Q 1 (hSo G n ρ K ad F q x mc em (addP t s)) b := by
  obtain ⟨p, p1, p2⟩ := A.2.2.2.2.2.2.2.2.2.2
  have e3 : (bitc (t.1 4) = 3) = (¬ bitc (t.1 4) < 3) := by
    unfold ok3 at h3
    rw [p1] at h3 ⊢
    exact bitc_3 _ A.2.2.2.1.1.2 p p2 h3
  unfold fX3_prop
  simp only [↓wp_bnd, ↓wp_ret, ↓wp_ite, ↓reduceIte, s_rd A, s_isP A, bI_0, s_props A, e3]
  cases hp : isP t s with
  | true => simp
  | false =>
    by_cases c : bitc (t.1 4) < 3
    · simp only [c, not_true_eq_false, ↓reduceIte, Bool.false_eq_true, or_self]
      rw [s_putN (i := 4) A (by omega)]
      rfl
    · simp [c]
theorem s_free {s : Nat} {Q : Unit → sd_H → Nat × Nat → Prop} (A : sA G n ρ K ad F q x em cs t) (hs : s < q 20) (hb : rq (q 20) b em) (kk : ∀ n' ρ' ad' mc' em' b', xt n ρ ad em n' ρ' ad' em' → bd (q 20) b em b' em' → sA G n' ρ' K ad' F q x em' cs (setl (q 20) (x 31) (subP t s)) → Q () (hSo G n' ρ' K ad' F q x mc' em' (setl (q 20) (x 31) (subP t s))) b') : wp (fX3_free G (ad 0) (n3 s)) (hSo G n ρ K ad F q x mc em t) b Q := by
  have A1 : sA G n ρ K ad F q x em cs (subP t s) := ⟨A.1, A.2.1, A.2.2.1, A.2.2.2.1, okT_subP A.2.2.2.2 hs⟩
  unfold fX3_free
  simp only [↓wp_bnd, ↓wp_ret, ↓wp_ite, ↓reduceIte, s_rd A]
  rw [s_putN (i := 4) A (by omega)]
  show wp _ (hSo G n ρ K ad F q x mc em (subP t s)) _ _
  simp only [↓wp_bnd, ↓wp_ret, ↓wp_ite, ↓reduceIte, s_rd A1]
  exact s_settle A1 hb kk
/-- an order's craft carried out at seat s -/
theorem s_carry {cr j s : Nat} {Q : Int32 → sd_H → Nat × Nat → Prop} (A : sA G n ρ K ad F q x em cs t) (h3 : ok3 t) (hj : j < 3) (hc : im G n ρ K cr (.inr (30 + j, []))) (hs : s < q 20) (hb : rq (q 20) b em) (k0 : carT q x t (n3 (11 + j)) s = none → Q 0 (hSo G n ρ K ad F q x mc em t) b) (k1 : ∀ u n' ρ' ad' mc' em' b', carT q x t (n3 (11 + j)) s = some u → xt n ρ ad em n' ρ' ad' em' → bd (q 20) b em b' em' → sA G n' ρ' K ad' F q x em' cs u → Q 1 (hSo G n' ρ' K ad' F q x mc' em' u) b') : wp (sd_bnd (sd_cls G cr) fun k64 => if k64 = 30 then fX31_carry G cr (ad 0) (n3 s) else if k64 = 31 then fX32_carry G cr (ad 0) (n3 s) else if k64 = 32 then fX33_carry G cr (ad 0) (n3 s) else sd_fail) (hSo G n ρ K ad F q x mc em t) b Q := by
  have h10 := A.2.2.2.2.2.2.1 s hs
  have hjj : j = 0 ∨ j = 1 ∨ j = 2 := by omega
  rcases hjj with rfl | rfl | rfl
  · rw [wp_bnd, wp_cls (im_lk hc), if_pos (by decide)]
    unfold fX31_carry
    have e : carT q x t (n3 (11 + 0)) s = if t.2.1 s = 0 then none else some (digT (q 20) x t s) := rfl
    simp (disch := omega) only [↓wp_bnd, ↓wp_ret, ↓wp_ite, ↓reduceIte, s_rd A, s_height A hs, n3_eql]
    by_cases c : t.2.1 s = 0
    · rw [if_pos c] at e
      rw [if_pos c]
      exact k0 e
    · rw [if_neg c] at e
      rw [if_neg c]
      exact s_dig A hs (by omega) hb (fun n' ρ' ad' mc' em' b' X B A' => k1 _ n' ρ' ad' mc' em' b' e X B A')
  · rw [wp_bnd, wp_cls (im_lk hc), if_neg (by decide), if_pos (by decide)]
    unfold fX32_carry
    have e : carT q x t (n3 (11 + 1)) s = if isP t s = true ∨ ¬ bitc (t.1 4) < 3 then none else some (addP t s) := rfl
    simp only [↓wp_bnd, ↓wp_ret, ↓wp_ite, ↓reduceIte, s_rd A, s_prop A h3 hs, wp_retN nar_b0, wp_retN nar_b1]
    by_cases c : isP t s = true ∨ ¬ bitc (t.1 4) < 3
    · rw [if_pos c] at e
      rw [if_pos c]
      exact k0 e
    · rw [if_neg c] at e
      rw [if_neg c]
      exact k1 _ n ρ ad mc em b e xt.refl bd.refl ⟨A.1, A.2.1, A.2.2.1, A.2.2.2.1, okT_addP A.2.2.2.2 hs⟩
  · rw [wp_bnd, wp_cls (im_lk hc), if_neg (by decide), if_neg (by decide), if_pos (by decide)]
    unfold fX33_carry
    have e : carT q x t (n3 (11 + 2)) s = if isP t s = true then some (setl (q 20) (x 31) (subP t s)) else none := rfl
    simp only [↓wp_bnd, ↓wp_ret, ↓wp_ite, ↓reduceIte, s_rd A, s_isP A, bI_0]
    cases c : isP t s with
    | false =>
      rw [c] at e
      simp only [↓reduceIte]
      exact k0 e
    | true =>
      rw [c] at e
      simp only [Bool.true_eq_false, ↓reduceIte]
      exact s_free A hs hb (fun n' ρ' ad' mc' em' b' X B A' => k1 _ n' ρ' ad' mc' em' b' e X B A')
end SC
