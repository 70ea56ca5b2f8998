/-! THE PLAIN LAW: what the component does by hand, over days, and looking ahead -/
def ixT (a : Int32) (n : Nat) (t : TT) (f : Nat → TT) : TT := match inR a n with
  | some s => f s
  | none => t
theorem ixT_ok {s n : Nat} {t : TT} {f : Nat → TT} (h : s < n) (hn : n ≤ 1000000) : ixT (n3 s) n t f = f s := by
  unfold ixT
  rw [inR_some h hn]
theorem ixT_bad {a : Int32} {n : Nat} {t : TT} {f : Nat → TT} (h : inR a n = none) : ixT a n t f = t := by
  unfold ixT
  rw [h]
/-- a number of days -/
def rg (a : Int32) : Option Nat := if ¬ a < 1 ∧ ¬ 30 < a then some a.toNatClampNeg else none
def rgA (a : Int32) (f : Nat → Int32 ⊕ Nat) : Int32 ⊕ Nat := match rg a with
  | some s => f s
  | none => .inr 49
def rgT (a : Int32) (t : TT) (f : Nat → TT) : TT := match rg a with
  | some s => f s
  | none => t
theorem rg_cases (a : Int32) : (∃ m, 1 ≤ m ∧ m ≤ 30 ∧ a = n3 m ∧ rg a = some m) ∨ ((a < 1 ∨ 30 < a) ∧ rg a = none) := by
  by_cases c1 : a < 1
  · exact Or.inr ⟨Or.inl c1, if_neg (fun h => h.1 c1)⟩
  · by_cases c2 : 30 < a
    · exact Or.inr ⟨Or.inr c2, if_neg (fun h => h.2 c2)⟩
    · have hr : rg a = some a.toNatClampNeg := if_pos ⟨c1, c2⟩
      rcases n3_cases a with h | ⟨k, hk, rfl⟩
      · refine absurd ?_ c1
        rw [Int32.lt_iff_toInt_lt] at h ⊢
        have e0 : (0 : Int32).toInt = 0 := by decide
        have e1 : (1 : Int32).toInt = 1 := by decide
        omega
      · rw [show (1 : Int32) = n3 1 from rfl, n3_lt (by omega) (by omega)] at c1
        rw [show (30 : Int32) = n3 30 from rfl, n3_lt (by omega) (by omega)] at c2
        rw [n3_nn hk] at hr
        exact Or.inl ⟨k, by omega, by omega, rfl, hr⟩
theorem ok3_digT {q : Nat → Nat} {x : Nat → Nat → Int32} {t : TT} {s : Nat} (h : ok3 t) : ok3 (digT (q 20) x t s) := by
  unfold ok3 digT
  rw [setl_nu (by decide)]
  exact h
section CDO
variable {t : TT} {b : Nat × Nat} {G : sd_G} {cx tp bt s0 E1 : Nat} {B : Nat → Nat} {Z : Nat → Prop} {q : Nat → Nat} {x : Nat → Nat → Int32} {ea : Int32} {sz : Nat} {bs : Nat → Int32} {h : sd_H}
theorem xt_XT {n n' : Nat} {ρ ρ' : Nat → Option Nat} {K : Nat → Option sd_E} {ad ad' : Nat → Nat} {em em' : Nat → Bool} (X : xt n ρ ad em n' ρ' ad' em') : XT n ρ K ad em n' ρ' K ad' em' := ⟨X, fun _ _ => rfl⟩
theorem c_dig {s : Nat} {Q : Int32 → sd_H → Nat × Nat → Prop} (C : CI G cx tp bt s0 E1 B Z q x ea sz bs h t) (hs : s < q 20) (h1 : 1 ≤ t.2.1 s) (b1 : 8 ≤ b.1) (b2 : 80 ≤ b.2) (kk : ∀ h' b', CI G cx tp bt s0 E1 B Z q x ea sz bs h' (digT (q 20) x t s) → fr h h' E1 (B 1) → b.1 ≤ b'.1 + 8 → b.2 ≤ b'.2 + 80 → Q (x 30 (topC t s)) h' b') : wp (fX3_dig G s0 (n3 s)) h b Q := by
  have C0 := C
  obtain ⟨w, -, h3, hd, -, -, c, n, ρ, K, ad, F, mc, em, cs, R, rfl, A, O, H, D, rfl, rfl⟩ := C
  have ce := cE_le (em := em) (q 20)
  have q8 := A.2.2.2.1.1.2
  refine s_dig A hs h1 ⟨by omega, by omega⟩ (fun n' ρ' ad' mc' em' b' X bb A' => ?_)
  obtain ⟨C', f'⟩ := CI_X w C0 A O H D rfl rfl (xt_XT X) A' (wfH_X w A.1 A'.1 X) (ok3_digT h3) (dst_digT A.2.2.2.1 A.2.2.2.2 hd hs h1)
  obtain ⟨bb1, bb2⟩ := bb
  exact kk _ _ C' f' (by omega) (by omega)
theorem c_free {s : Nat} {Q : Unit → sd_H → Nat × Nat → Prop} (C : CI G cx tp bt s0 E1 B Z q x ea sz bs h t) (hs : s < q 20) (hp : isP t s = true) (b1 : 8 ≤ b.1) (b2 : 80 ≤ b.2) (kk : ∀ h' b', CI G cx tp bt s0 E1 B Z q x ea sz bs h' (setl (q 20) (x 31) (subP t s)) → fr h h' E1 (B 1) → b.1 ≤ b'.1 + 8 → b.2 ≤ b'.2 + 80 → Q () h' b') : wp (fX3_free G s0 (n3 s)) h b Q := by
  have C0 := C
  obtain ⟨w, -, h3, hd, -, -, c, n, ρ, K, ad, F, mc, em, cs, R, rfl, A, O, H, D, rfl, rfl⟩ := C
  have ce := cE_le (em := em) (q 20)
  have q8 := A.2.2.2.1.1.2
  refine s_free A hs ⟨by omega, by omega⟩ (fun n' ρ' ad' mc' em' b' X bb A' => ?_)
  have hu : carT q x t 13 s = some (setl (q 20) (x 31) (subP t s)) := by
    unfold carT
    rw [if_neg (by decide), if_neg (by decide), if_pos hp]
  obtain ⟨C', f'⟩ := CI_X w C0 A O H D rfl rfl (xt_XT X) A' (wfH_X w A.1 A'.1 X) (ok3_carT A.2.2.2.2 h3 hs hu) (dst_carT A.2.2.2.1 A.2.2.2.2 hd hs hu)
  obtain ⟨bb1, bb2⟩ := bb
  exact kk _ _ C' f' (by omega) (by omega)
theorem c_prop {s : Nat} {Q : Int32 → sd_H → Nat × Nat → Prop} (C : CI G cx tp bt s0 E1 B Z q x ea sz bs h t) (hs : s < q 20) (k0 : (isP t s = true ∨ ¬ bitc (t.1 4) < 3) → Q 0 h b) (k1 : ∀ h', ¬ (isP t s = true ∨ ¬ bitc (t.1 4) < 3) → CI G cx tp bt s0 E1 B Z q x ea sz bs h' (addP t s) → fr h h' E1 (B 1) → Q 1 h' b) : wp (fX3_prop G s0 (n3 s)) h b Q := by
  have C0 := C
  obtain ⟨w, -, h3, hd, -, -, c, n, ρ, K, ad, F, mc, em, cs, R, rfl, A, O, H, D, rfl, rfl⟩ := C
  rw [s_prop A h3 hs]
  split
  · next hc => exact k0 hc
  · next hc =>
    have hu : carT q x t 12 s = some (addP t s) := by
      unfold carT
      rw [if_neg (by decide), if_pos rfl, if_neg hc]
    obtain ⟨C', f'⟩ := CI_X (mc' := mc) (t' := addP t s) w C0 A O H D rfl rfl (XT.refl) ⟨A.1, A.2.1, A.2.2.1, A.2.2.2.1, okT_addP A.2.2.2.2 hs⟩ (wfH_same w) (ok3_carT A.2.2.2.2 h3 hs hu) (dst_eq hd rfl rfl)
    exact k1 _ hc C' f'
theorem c_pass {m : Nat} {Q : Unit → sd_H → Nat × Nat → Prop} (C : CI G cx tp bt s0 E1 B Z q x ea sz bs h t) (hm : m ≤ 30) (b1 : 38 ≤ b.1) (b2 : 200 ≤ b.2) (kk : ∀ h' b', CI G cx tp bt s0 E1 B Z q x ea sz bs h' (dys q x m t) → fr h h' E1 (B 1) → b.1 ≤ b'.1 + 38 → b.2 ≤ b'.2 + 200 → Q () h' b') : wp (fX3_pass G s0 (n3 m)) h b Q := by
  have C0 := C
  obtain ⟨w, -, h3, hd, -, -, c, n, ρ, K, ad, F, mc, em, cs, R, rfl, A, O, H, D, rfl, rfl⟩ := C
  have ce := cE_le (em := em) (q 20)
  have q8 := A.2.2.2.1.1.2
  refine s_pass A O h3 w hm (by omega) (by omega) (fun n' ρ' K' ad' mc' em' b' X bb A' w' => ?_)
  obtain ⟨C', f'⟩ := CI_X w C0 A O H D rfl rfl X A' w' (ok3_dys A.2.2.2.1 m t A.2.2.2.2 h3) (dst_dys A.2.2.2.1 m t A.2.2.2.2 hd)
  obtain ⟨bb1, bb2⟩ := bb
  exact kk _ _ C' f' (by omega) (by omega)
/-- how many slide if a seat is dug -/
def slb (q : Nat → Nat) (x : Nat → Nat → Int32) (t : TT) (s : Nat) : Int32 := (digT (q 20) x t s).1 3 - t.1 3
theorem c_slidesBy {s : Nat} {Q : Int32 → sd_H → Nat × Nat → Prop} (C : CI G cx tp bt s0 E1 B Z q x ea sz bs h t) (hs : s < q 20) (h1 : 1 ≤ t.2.1 s) (b1 : 208 ≤ b.1) (b2 : 3480 ≤ b.2) (kk : ∀ h' b', CI G cx tp bt s0 E1 B Z q x ea sz bs h' t → fr h h' E1 (B 1) → b.1 ≤ b'.1 + 208 → b.2 ≤ b'.2 + 3480 → Q (slb q x t s) h' b') : wp (fX1_slidesBy G cx (n3 s)) h b Q := by
  obtain ⟨hP, hT, -, -⟩ := C_P C
  obtain ⟨r1, r2, r3, r4, r5, r6⟩ := c_rd C
  unfold fX1_slidesBy
  rw [wp_bnd, r5, wp_bnd, r4, wp_bnd, r6, wp_bnd]
  refine c_take C (by omega) (by omega) (fun n' ρ' K' ad' mc' em' cs' b' A' O' w' e0 e3 back bb1 bb2 => ?_)
  have ce := cE_le (em := em') (q 20)
  have q8 := hP.1.2
  rw [wp_bnd, ← e0, (s_rd A').2.2.2.2.2.2.2.2.2.2.2.2.1, wp_bnd]
  refine s_dig A' hs h1 ⟨by omega, by omega⟩ (fun n'' ρ'' ad'' mc'' em'' b'' X bb A'' => ?_)
  obtain ⟨C', f'⟩ := back n'' ρ'' K' ad'' mc'' em'' _ (xt_XT X) A'' (wfH_X w' A'.1 A''.1 X)
  obtain ⟨r1, r2, r3, r4, r5, r6⟩ := c_rd C'
  have o11 := (c_so C').2.2.2.2.2.1
  have a0 : ad'' 0 = B 0 := (X.ad (by omega)).trans e0
  have a11 := (s_rd (mc := mc'') A'').2.2.2.2.2.2.2.2.2.2.2.1
  rw [a0] at a11
  obtain ⟨bb3, bb4⟩ := bb
  rw [wp_bnd, r5, wp_bnd, a11, wp_bnd, r4, wp_bnd, o11, wp_ret]
  exact kk _ _ C' f' (by omega) (by omega)
theorem a_dig (C : CI G cx tp bt s0 E1 B Z q x ea sz bs h t) (a : Int32) : CO G cx tp bt s0 E1 B Z q x ea sz bs (fX1_dig G cx a) h (ixT a (q 20) t fun s => if t.2.1 s ≠ 0 then digT (q 20) x t s else t) (fun h' r => AN h' r (ixA a (q 20) fun s => stA (t.2.1 s ≠ 0) (.inl (x 30 (topC t s))))) := by
  intro b Q b1 b2 kk
  obtain ⟨hP, hT, -, -⟩ := C_P C
  have q20 := hP.1.2
  obtain ⟨r1, r2, r3, r4, r5, r6⟩ := c_rd C
  obtain ⟨o0, o1, o8, o9, o10, o11, o12, o6, oe⟩ := c_so C
  unfold fX1_dig fX1_stacked
  rcases inR_cases a (n := q 20) (by omega) with ⟨s, hs, rfl⟩ | ⟨hb, hn⟩
  · simp only [ixA_ok hs (show q 20 ≤ 1000000 by omega), ixT_ok hs (show q 20 ≤ 1000000 by omega)] at kk
    have hi : ∀ {h : sd_H} {b : Nat × Nat} {Q : Unit ⊕ Nat → sd_H → Nat × Nat → Prop}, wp (fX1_requireIndex G (n3 s) (n3 (q 20))) h b Q = Q (.inl ()) h b := r_idx hs (by omega)
    have h10 := hT.2.2.1 s hs
    by_cases c : t.2.1 s = 0
    · have e : n3 (t.2.1 s) ≤ 0 := by rw [c]; decide
      simp only [stA, c, ne_eq, not_true_eq_false, ↓reduceIte] at kk
      simp only [↓wp_bnd, ↓wp_ret, ↓wp_ite, ↓reduceIte, ↓wp_bx, r1, r4, o1, o12, hi, c_height C hs, e, r_st0 (b := b) (by omega) (by omega)]
      exact kk _ _ _ (CI_pu C).1 (CI_pu C).2 (by simp only; omega) (by simp only; omega) (pu_at _ _)
    · have e : ¬ n3 (t.2.1 s) ≤ 0 := by
        rw [show (0 : Int32) = n3 0 from rfl, n3_le (by omega) (by omega)]
        omega
      simp only [stA, c, ne_eq, not_false_eq_true, ↓reduceIte] at kk
      simp only [↓wp_bnd, ↓wp_ret, ↓wp_ite, ↓reduceIte, ↓wp_bx, r1, r4, o1, o12, hi, c_height C hs, e, r_st1]
      exact c_dig C hs (by omega) (by omega) (by omega) (fun h' b' C' f' bb1 bb2 => kk _ _ _ C' f' (by omega) (by omega) rfl)
  · simp only [ixA_bad hn, ixT_bad hn] at kk
    have hi : ∀ {h : sd_H} {Q : Unit ⊕ Nat → sd_H → Nat × Nat → Prop}, wp (fX1_requireIndex G a (n3 (q 20))) h b Q = Q (.inr h.1) (sd_pu h (.inr (50, []))) (b.1 - 1, b.2 - 6) := r_idb hb (by omega) (by omega)
    simp only [↓wp_bnd, ↓wp_ret, ↓wp_ite, ↓reduceIte, ↓wp_bx, r1, r4, o1, hi]
    exact kk _ _ _ (CI_pu C).1 (CI_pu C).2 (by simp only; omega) (by simp only; omega) (pu_at _ _)
theorem a_wouldSlide (C : CI G cx tp bt s0 E1 B Z q x ea sz bs h t) (a : Int32) : CO G cx tp bt s0 E1 B Z q x ea sz bs (fX1_wouldSlide G cx a) h t (fun h' r => AN h' r (ixA a (q 20) fun s => stA (t.2.1 s ≠ 0) (.inl (slb q x t s)))) := by
  intro b Q b1 b2 kk
  obtain ⟨hP, hT, -, -⟩ := C_P C
  have q20 := hP.1.2
  obtain ⟨r1, r2, r3, r4, r5, r6⟩ := c_rd C
  obtain ⟨o0, o1, o8, o9, o10, o11, o12, o6, oe⟩ := c_so C
  unfold fX1_wouldSlide fX1_stacked
  rcases inR_cases a (n := q 20) (by omega) with ⟨s, hs, rfl⟩ | ⟨hb, hn⟩
  · simp only [ixA_ok hs (show q 20 ≤ 1000000 by omega)] at kk
    have hi : ∀ {h : sd_H} {b : Nat × Nat} {Q : Unit ⊕ Nat → sd_H → Nat × Nat → Prop}, wp (fX1_requireIndex G (n3 s) (n3 (q 20))) h b Q = Q (.inl ()) h b := r_idx hs (by omega)
    have h10 := hT.2.2.1 s hs
    by_cases c : t.2.1 s = 0
    · have e : n3 (t.2.1 s) ≤ 0 := by rw [c]; decide
      simp only [stA, c, ne_eq, not_true_eq_false, ↓reduceIte] at kk
      simp only [↓wp_bnd, ↓wp_ret, ↓wp_ite, ↓reduceIte, ↓wp_bx, r1, r4, o1, o12, hi, c_height C hs, e, r_st0 (b := b) (by omega) (by omega)]
      exact kk _ _ _ (CI_pu C).1 (CI_pu C).2 (by simp only; omega) (by simp only; omega) (pu_at _ _)
    · have e : ¬ n3 (t.2.1 s) ≤ 0 := by
        rw [show (0 : Int32) = n3 0 from rfl, n3_le (by omega) (by omega)]
        omega
      simp only [stA, c, ne_eq, not_false_eq_true, ↓reduceIte] at kk
      simp only [↓wp_bnd, ↓wp_ret, ↓wp_ite, ↓reduceIte, ↓wp_bx, r1, r4, o1, o12, hi, c_height C hs, e, r_st1]
      exact c_slidesBy C hs (by omega) (by omega) (by omega) (fun h' b' C' f' bb1 bb2 => kk _ _ _ C' f' (by omega) (by omega) rfl)
  · simp only [ixA_bad hn] at kk
    have hi : ∀ {h : sd_H} {Q : Unit ⊕ Nat → sd_H → Nat × Nat → Prop}, wp (fX1_requireIndex G a (n3 (q 20))) h b Q = Q (.inr h.1) (sd_pu h (.inr (50, []))) (b.1 - 1, b.2 - 6) := r_idb hb (by omega) (by omega)
    simp only [↓wp_bnd, ↓wp_ret, ↓wp_ite, ↓reduceIte, ↓wp_bx, r1, r4, o1, hi]
    exact kk _ _ _ (CI_pu C).1 (CI_pu C).2 (by simp only; omega) (by simp only; omega) (pu_at _ _)
theorem a_prop (C : CI G cx tp bt s0 E1 B Z q x ea sz bs h t) (a : Int32) : CO G cx tp bt s0 E1 B Z q x ea sz bs (fX1_prop G cx a) h (ixT a (q 20) t fun s => if ¬ (isP t s = true ∨ ¬ bitc (t.1 4) < 3) then addP t s else t) (fun h' r => AN h' r (ixA a (q 20) fun s => stA (¬ (isP t s = true ∨ ¬ bitc (t.1 4) < 3)) (.inl (bitc ((addP t s).1 4))))) := by
  intro b Q b1 b2 kk
  obtain ⟨hP, hT, -, -⟩ := C_P C
  have q20 := hP.1.2
  obtain ⟨r1, r2, r3, r4, r5, r6⟩ := c_rd C
  obtain ⟨o0, o1, o8, o9, o10, o11, o12, o6, oe⟩ := c_so C
  unfold fX1_prop fX1_seat
  rcases inR_cases a (n := q 20) (by omega) with ⟨s, hs, rfl⟩ | ⟨hb, hn⟩
  · simp only [ixA_ok hs (show q 20 ≤ 1000000 by omega), ixT_ok hs (show q 20 ≤ 1000000 by omega)] at kk
    have hi : ∀ {h : sd_H} {b : Nat × Nat} {Q : Unit ⊕ Nat → sd_H → Nat × Nat → Prop}, wp (fX1_requireIndex G (n3 s) (n3 (q 20))) h b Q = Q (.inl ()) h b := r_idx hs (by omega)
    simp only [↓wp_bnd, ↓wp_bx, ↓wp_ret, r1, r4, o1, o12, hi]
    refine c_prop C hs (fun hc => ?_) (fun h' hc C' f' => ?_)
    · rw [r_st0 (by omega) (by omega)]
      unfold stA at kk
      rw [if_neg (fun hn => hn hc), if_neg (fun hn => hn hc)] at kk
      exact kk _ _ _ (CI_pu C).1 (CI_pu C).2 (by simp only; omega) (by simp only; omega) (pu_at _ _)
    · rw [r_st1]
      simp only [(c_rd C').2.2.2.1, (c_so C').2.2.2.2.2.2.1, c_props C']
      unfold stA at kk
      rw [if_pos hc, if_pos hc] at kk
      exact kk _ _ _ C' f' (by omega) (by omega) rfl
  · simp only [ixA_bad hn, ixT_bad hn] at kk
    have hi : ∀ {h : sd_H} {Q : Unit ⊕ Nat → sd_H → Nat × Nat → Prop}, wp (fX1_requireIndex G a (n3 (q 20))) h b Q = Q (.inr h.1) (sd_pu h (.inr (50, []))) (b.1 - 1, b.2 - 6) := r_idb hb (by omega) (by omega)
    simp only [↓wp_bnd, ↓wp_ret, ↓wp_ite, ↓reduceIte, ↓wp_bx, r1, r4, o1, hi]
    exact kk _ _ _ (CI_pu C).1 (CI_pu C).2 (by simp only; omega) (by simp only; omega) (pu_at _ _)
theorem a_takeProp (C : CI G cx tp bt s0 E1 B Z q x ea sz bs h t) (a : Int32) : CO G cx tp bt s0 E1 B Z q x ea sz bs (fX1_takeProp G cx a) h (ixT a (q 20) t fun s => if isP t s = true then setl (q 20) (x 31) (subP t s) else t) (fun h' r => AN h' r (ixA a (q 20) fun s => stA (isP t s = true) (.inl ((setl (q 20) (x 31) (subP t s)).1 3 - t.1 3)))) := by
  intro b Q b1 b2 kk
  obtain ⟨hP, hT, -, -⟩ := C_P C
  have q20 := hP.1.2
  obtain ⟨r1, r2, r3, r4, r5, r6⟩ := c_rd C
  obtain ⟨o0, o1, o8, o9, o10, o11, o12, o6, oe⟩ := c_so C
  unfold fX1_takeProp fX1_isPropped fX1_seat
  rcases inR_cases a (n := q 20) (by omega) with ⟨s, hs, rfl⟩ | ⟨hb, hn⟩
  · simp only [ixA_ok hs (show q 20 ≤ 1000000 by omega), ixT_ok hs (show q 20 ≤ 1000000 by omega)] at kk
    have hi : ∀ {h : sd_H} {b : Nat × Nat} {Q : Unit ⊕ Nat → sd_H → Nat × Nat → Prop}, wp (fX1_requireIndex G (n3 s) (n3 (q 20))) h b Q = Q (.inl ()) h b := r_idx hs (by omega)
    by_cases c : isP t s = true
    · simp only [stA, c, ↓reduceIte] at kk
      simp only [↓wp_bnd, ↓wp_bx, ↓wp_ret, r1, r4, o1, o12, hi, c_isP C, wp_retNX nar_b1, c, bI_t, r_st1, o11]
      refine c_free C hs c (by omega) (by omega) (fun h' b' C' f' bb1 bb2 => ?_)
      simp only [wp_bnd, wp_ret, (c_rd C').2.2.2.1, (c_so C').2.2.2.2.2.1]
      exact kk _ _ _ C' f' (by omega) (by omega) rfl
    · unfold stA at kk
      rw [if_neg c, if_neg c] at kk
      simp only [↓wp_bnd, ↓wp_bx, ↓wp_ret, r1, r4, o1, o12, hi, c_isP C, wp_retNX nar_b0, Bool.eq_false_iff.mpr c, bI_f, r_st0 (b := b) (by omega) (by omega)]
      exact kk _ _ _ (CI_pu C).1 (CI_pu C).2 (by simp only; omega) (by simp only; omega) (pu_at _ _)
  · simp only [ixA_bad hn, ixT_bad hn] at kk
    have hi : ∀ {h : sd_H} {Q : Unit ⊕ Nat → sd_H → Nat × Nat → Prop}, wp (fX1_requireIndex G a (n3 (q 20))) h b Q = Q (.inr h.1) (sd_pu h (.inr (50, []))) (b.1 - 1, b.2 - 6) := r_idb hb (by omega) (by omega)
    simp only [↓wp_bnd, ↓wp_bx, ↓wp_ret, r1, r4, o1, hi]
    exact kk _ _ _ (CI_pu C).1 (CI_pu C).2 (by simp only; omega) (by simp only; omega) (pu_at _ _)
theorem a_passDays (C : CI G cx tp bt s0 E1 B Z q x ea sz bs h t) (a : Int32) : CO G cx tp bt s0 E1 B Z q x ea sz bs (fX1_passDays G cx a) h (rgT a t fun m => dys q x m t) (fun h' r => AN h' r (rgA a fun m => .inl (cnt (fndB (dys q x m t) 1) (q 26) - cnt (fndB t 1) (q 26)))) := by
  intro b Q b1 b2 kk
  obtain ⟨r1, r2, r3, r4, r5, r6⟩ := c_rd C
  obtain ⟨o0, o1, o8, o9, o10, o11, o12, o6, oe⟩ := c_so C
  unfold fX1_passDays
  rcases rg_cases a with ⟨m, m1, m2, rfl, hr⟩ | ⟨hb, hr⟩
  · simp only [rgA, rgT, hr] at kk
    have hi : ∀ {h : sd_H} {b : Nat × Nat} {Q : Unit ⊕ Nat → sd_H → Nat × Nat → Prop}, wp (fX1_requireFrom G 1 30 (n3 m)) h b Q = Q (.inl ()) h b := r_frm (l := 1) (m := 30) m1 m2 (by omega)
    simp only [↓wp_bnd, ↓wp_bx, ↓wp_ret, r4, o12, hi, c_found C]
    refine c_pass C m2 (by omega) (by omega) (fun h' b' C' f' bb1 bb2 => ?_)
    simp only [wp_bnd, wp_ret, (c_rd C').2.2.2.1, (c_so C').2.2.2.2.2.2.1, c_found C']
    exact kk _ _ _ C' f' (by omega) (by omega) rfl
  · simp only [rgA, rgT, hr] at kk
    simp only [↓wp_bnd, ↓wp_bx, ↓wp_ret, r_frb (b := b) hb (by omega) (by omega)]
    exact kk _ _ _ (CI_pu C).1 (CI_pu C).2 (by simp only; omega) (by simp only; omega) (pu_at _ _)
theorem a_foundAfter (C : CI G cx tp bt s0 E1 B Z q x ea sz bs h t) (a : Int32) : CO G cx tp bt s0 E1 B Z q x ea sz bs (fX1_foundAfter G cx a) h t (fun h' r => AN h' r (rgA a fun m => .inl (cnt (fndB (dys q x m t) 1) (q 26)))) := by
  intro b Q b1 b2 kk
  obtain ⟨hP, hT, h3, -⟩ := C_P C
  have q8 := hP.1.2
  obtain ⟨r1, r2, r3, r4, r5, r6⟩ := c_rd C
  unfold fX1_foundAfter
  rcases rg_cases a with ⟨m, m1, m2, rfl, hr⟩ | ⟨hb, hr⟩
  · simp only [rgA, hr] at kk
    have hi : ∀ {h : sd_H} {b : Nat × Nat} {Q : Unit ⊕ Nat → sd_H → Nat × Nat → Prop}, wp (fX1_requireFrom G 1 30 (n3 m)) h b Q = Q (.inl ()) h b := r_frm (l := 1) (m := 30) m1 m2 (by omega)
    simp only [↓wp_bnd, ↓wp_bx, ↓wp_ret, r4, r5, r6, hi]
    refine c_take C (by omega) (by omega) (fun n' ρ' K' ad' mc' em' cs' b' A' O' w' e0 e3 back bb1 bb2 => ?_)
    have ce := cE_le (em := em') (q 20)
    rw [← e0, (s_rd A').2.2.2.2.2.2.2.2.2.2.2.2.1]
    refine s_pass A' O' h3 w' m2 (by omega) (by omega) (fun n'' ρ'' K'' ad'' mc'' em'' b'' X bb A'' w'' => ?_)
    obtain ⟨C', f'⟩ := back n'' ρ'' K'' ad'' mc'' em'' _ X A'' w''
    obtain ⟨r1, r2, r3, r4, r5, r6⟩ := c_rd C'
    have a0 : ad'' 0 = B 0 := (X.1.ad (by omega)).trans e0
    have af := fun (b : Nat × Nat) (Q : Int32 → sd_H → Nat × Nat → Prop) => s_found (b := b) (Q := Q) (mc := mc'') A''
    rw [a0] at af
    obtain ⟨bb3, bb4⟩ := bb
    rw [r5]
    simp only [wp_bnd, wp_ret, r6, af]
    exact kk _ _ _ C' f' (by omega) (by omega) rfl
  · simp only [rgA, hr] at kk
    simp only [↓wp_bnd, ↓wp_bx, ↓wp_ret, r_frb (b := b) hb (by omega) (by omega)]
    exact kk _ _ _ (CI_pu C).1 (CI_pu C).2 (by simp only; omega) (by simp only; omega) (pu_at _ _)
end CDO
