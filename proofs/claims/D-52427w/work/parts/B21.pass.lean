/-! THE PLAIN LAW: days of the component -/
section SP
variable {G : sd_G} {n : Nat} {ρ : Nat → Option Nat} {K : Nat → Option sd_E} {ad F : Nat → Nat} {q : Nat → Nat} {x : Nat → Nat → Int32} {mc : Nat → Int32} {em cs : Nat → Bool} {t : TT} {b : Nat × Nat}
/-- what an order's test tells -/
theorem ev_order {te k : Nat} (A : sA G n ρ K ad F q x em cs t) (h : isTs (q 22) (im G n ρ K) 39 te (prt x (2 * k + 1)) ∨ (im G n ρ K te (.inr (23, [])) ∧ prt x (2 * k + 1) = [])) : ∃ c : Bool, valP q x t (2 * k + 1) = bI c ∧ ∀ b (Q : Int32 → sd_H → Nat × Nat → Prop), wp (sd_bnd (sd_cls G te) fun k41 => if k41 = 18 then (pRT G 40).1 te (ad 0) else if k41 = 19 then (pRT G 40).2 te (ad 0) else if k41 = 20 then fX22_holds G te (ad 0) else if k41 = 21 then fX23_holds G te (ad 0) else if k41 = 22 then fX24_holds G te (ad 0) else if k41 = 23 then fX26_holds G te (ad 0) else sd_fail) (hSo G n ρ K ad F q x mc em t) b Q = Q (bI c) (hSo G n ρ K ad F q x mc em t) b := by
  rcases h with h | ⟨h1, h2⟩
  · obtain ⟨c, c1, c2⟩ := ev_test (mc := mc) A 39 te _ h
    refine ⟨c, ?_, c2 40 (by omega)⟩
    rw [valP_prt, c1]
    rfl
  · refine ⟨true, ?_, fun b Q => ?_⟩
    · rw [valP_prt, h2]
      rfl
    · rw [wp_bnd, wp_cls (im_lk h1), if_neg (by decide), if_neg (by decide), if_neg (by decide), if_neg (by decide), if_neg (by decide), if_pos rfl]
      unfold fX26_holds
      rw [wp_ret]
      rfl
/-- what may be made in a run of days -/
def bdd (ns m : Nat) (b : Nat × Nat) (em : Nat → Bool) (b' : Nat × Nat) (em' : Nat → Bool) : Prop := b.1 + cE em' ns ≤ b'.1 + cE em ns + m ∧ b.2 + 10 * cE em' ns ≤ b'.2 + 10 * cE em ns + 4 * m
theorem s_pass {m : Nat} {Q : Unit → sd_H → Nat × Nat → Prop} (A : sA G n ρ K ad F q x em cs t) {Z : Nat → Prop} (O : sO G n ρ K Z F q x) (h3 : ok3 t) (w : wfH G (hSo G n ρ K ad F q x mc em t)) (hm : m ≤ 30) (hb1 : cE em (q 20) + m ≤ b.1) (hb2 : 10 * cE em (q 20) + 4 * m ≤ b.2) (kk : ∀ n' ρ' K' ad' mc' em' b', XT n ρ K ad em n' ρ' K' ad' em' → bdd (q 20) m b em b' em' → sA G n' ρ' K' ad' F q x em' cs (dys q x m t) → wfH G (hSo G n' ρ' K' ad' F q x mc' em' (dys q x m t)) → Q () (hSo G n' ρ' K' ad' F q x mc' em' (dys q x m t)) b') : wp (fX3_pass G (ad 0) (n3 m)) (hSo G n ρ K ad F q x mc em t) b Q := by
  have hP := A.2.2.2.1
  unfold fX3_pass
  refine wp_for (F := fun k s => fX3_pass_b2 G k s.1 s.2.1 s.2.2) m (fun i (_ : Unit) => (ad 0, n3 m, n3 i)) (fun i _ h' b' => ∃ n' ρ' K' ad' mc' em' u, XT n ρ K ad em n' ρ' K' ad' em' ∧ bdd (q 20) i b em b' em' ∧ sA G n' ρ' K' ad' F q x em' cs u ∧ ok3 u ∧ wfH G h' ∧ h' = hSo G n' ρ' K' ad' F q x mc' em' u ∧ dys q x (m - i) u = dys q x m t) ?_ ?_ sd_FU 0 () _ b (Nat.zero_le _) (by unfold sd_FU; omega) ⟨n, ρ, K, ad, mc, em, t, XT.refl, by unfold bdd; omega, A, h3, w, rfl, rfl⟩
  · rintro k _ h' b' ⟨n', ρ', K', ad', mc', em', u, X, B, A', u3, wu, rfl, e⟩
    rw [Nat.sub_self] at e
    have e : u = dys q x m t := e
    unfold fX3_pass_b2
    simp (disch := omega) only [↓wp_bnd, ↓wp_ret, ↓wp_ite, ↓reduceIte, n3_le, Nat.le_refl]
    rw [e] at A' wu ⊢
    exact kk n' ρ' K' ad' mc' em' b' X B A' wu
  · rintro k i _ h' b' hi ⟨n', ρ', K', ad', mc', em', u, X, B, A', u3, wu, rfl, e⟩ K1
    have h1 : ¬ m ≤ i := by omega
    have O' := sO_X X O
    have had : ad' 0 = ad 0 := X.1.ad (by omega)
    obtain ⟨m5, r5, c5, f5, o1, o2, o3, o4, o5⟩ := O'
    have hn := sA_n A'
    have hl : sd_look G (nh n' ρ' (cS ad' F q x (sd_ad G 0) mc' em' u) K') (F 5) = some (aL m5 r5 (q 32)) := im_look o1
    unfold fX3_pass_b2
    rw [← had]
    simp (disch := omega) only [↓wp_bnd, ↓wp_ret, ↓wp_ite, ↓reduceIte, s_rd A', n3_le, h1]
    rw [wp_isC (im_lk o1)]
    unfold hSo
    have hcE := cE_le (em := em') (q 20)
    have hB : 1 + cE em' (q 20) ≤ b'.1 ∧ 4 + 10 * cE em' (q 20) ≤ b'.2 := by
      unfold bdd at B
      omega
    refine nh_iter hl (by have := o1.2.1; omega) hn (by omega) (by omega) ?_
    refine wp_for (F := fun kk s => fX3_pass_b15 G k kk s.1 s.2.1 s.2.2.1 s.2.2.2) (q 32) (fun j (_ : Unit) => (ad' 0, n3 m, n3 i, n')) (fun j _ h2 b2 => ∃ n2 ρ2 ad2 mc2 em2 w last, xt (n' + 1) ρ' ad' em' n2 ρ2 ad2 em2 ∧ bd (q 20) (b'.1 - 1, b'.2 - 4) em' b2 em2 ∧ sA G n2 ρ2 (updK K' n' (aI (n3 j) last m5 (F 5))) ad2 F q x em2 cs w ∧ ok3 w ∧ wfH G h2 ∧ h2 = hSo G n2 ρ2 (updK K' n' (aI (n3 j) last m5 (F 5))) ad2 F q x mc2 em2 w ∧ ords q x (q 32 - j) j w = ords q x (q 32) 0 u) ?_ ?_ sd_FU 0 () _ _ (Nat.zero_le _) (by have := hP.2.2.2.2.1; unfold sd_FU; omega) ⟨n' + 1, ρ', ad', mc', em', u, -1, xt.refl, bd.refl, sA_K A' (Nat.le_succ n') (fun a ha => if_neg (by omega)), u3, by rw [← nh_pu hn]; exact wfH_pu wu, rfl, rfl⟩
    · rintro k2 _ h2 b2 ⟨n2, ρ2, ad2, mc2, em2, w, last, X2, B2, A2, w3, w2h, rfl, f⟩
      rw [Nat.sub_self] at f
      have f : w = ords q x (q 32) 0 u := f
      have hn2 : ρ2 n' = none := (X2.2.1 n' (by omega)).trans hn
      have o1' : im G n2 ρ2 K' (F 5) (aL m5 r5 (q 32)) := ⟨(X2.2.1 _ (by have := o1.2.1; omega)).trans o1.1, by have := o1.2.1; have := X2.1; omega, o1.2.2⟩
      have had2 : ad2 0 = ad' 0 := X2.ad (by omega)
      have q16 := hP.2.2.2.2.1
      unfold fX3_pass_b15
      rw [wp_bnd]
      unfold hSo
      rw [nh_isI hn2, wp_bnd, nh_hasNext (n := n2) (sz := q 32) (im_look o1') (by have := o1.2.1; omega) hn2 (by omega) (by omega), if_pos rfl, if_pos rfl]
      rw [show nh n2 ρ2 (cS ad2 F q x (sd_ad G 0) mc2 em2 w) (updK K' n' (aI (n3 (q 32)) last m5 (F 5))) = hSo G n2 ρ2 (updK K' n' (aI (n3 (q 32)) last m5 (F 5))) ad2 F q x mc2 em2 w from rfl, ← had2]
      simp (disch := omega) only [↓wp_bnd, ↓wp_ret, ↓wp_ite, ↓reduceIte, s_rd A2]
      rw [s_putN (i := 0) A2 (by omega), show n3 i + 1 = n3 (i + 1) from n3_add i 1, had2, had]
      refine K1 () _ _ ⟨n2, ρ2, updK K' n' (aI (n3 (q 32)) last m5 (F 5)), ad2, mc2, em2, dayT q x u, ?_, ?_, ?_, ok3_dayT hP A'.2.2.2.2 u3, wfH_same w2h, ?_, ?_⟩
      · refine X.trans ⟨⟨by have := X2.1; omega, fun a ha => X2.2.1 a (by omega), X2.2.2.1, X2.2.2.2⟩, fun a ha => if_neg (by omega)⟩
      · unfold bdd at B ⊢
        unfold bd at B2
        simp only at B2
        omega
      · have := sA_num (i := 0) (z := w.1 0 + 1) A2 (by decide)
        rw [f] at this
        exact this
      · rw [f]
        rfl
      · rw [← e, show m - i = (m - (i + 1)) + 1 by omega]
        rfl
    · rintro k2 j _ h2 b2 hj ⟨n2, ρ2, ad2, mc2, em2, w, last, X2, B2, A2, w3, w2h, rfl, f⟩ K2
      have hn2 : ρ2 n' = none := (X2.2.1 n' (by omega)).trans hn
      have mo : ∀ {a : Nat} {e : sd_E}, im G n' ρ' K' a e → im G n2 ρ2 K' a e := fun h => ⟨(X2.2.1 _ (by have := h.2.1; omega)).trans h.1, by have := h.2.1; have := X2.1; omega, h.2.2⟩
      have moU : ∀ {a : Nat} {e : sd_E} (last : Int32), im G n' ρ' K' a e → im G n2 ρ2 (updK K' n' (aI (n3 (j + 1)) last m5 (F 5))) a e := fun last h => ⟨(X2.2.1 _ (by have := h.2.1; omega)).trans h.1, by have := h.2.1; have := X2.1; omega, by
        rw [show updK K' n' (aI (n3 (j + 1)) last m5 (F 5)) _ = K' _ from if_neg (by have := h.2.1; omega)]
        exact h.2.2⟩
      have had2 : ad2 0 = ad' 0 := X2.ad (by omega)
      have q16 := hP.2.2.2.2.1
      obtain ⟨a, cr, se, te, jj, p1, p2, p3, p4, p5, p6, p7⟩ := o5 j hj
      have hj2 : ¬ (j = q 32) := by omega
      unfold fX3_pass_b15
      rw [wp_bnd]
      unfold hSo
      rw [nh_isI hn2, wp_bnd, nh_hasNext (n := n2) (sz := q 32) (im_look (mo o1)) (by have := o1.2.1; omega) hn2 (by omega) (by omega), if_neg hj2, if_neg (by decide), wp_bnd, nh_isI hn2, wp_bnd, nh_next (n := n2) (w := a) (im_look (mo o1)) (im_look (mo o2)) (by have := o1.2.1; omega) (by have := o2.2.1; omega) hn2 hj o3 (by omega) p1]
      rw [show nh n2 ρ2 (cS ad2 F q x (sd_ad G 0) mc2 em2 w) (updK K' n' (aI (n3 (j + 1)) (n3 j) m5 (F 5))) = hSo G n2 ρ2 (updK K' n' (aI (n3 (j + 1)) (n3 j) m5 (F 5))) ad2 F q x mc2 em2 w from rfl]
      have A3 : sA G n2 ρ2 (updK K' n' (aI (n3 (j + 1)) (n3 j) m5 (F 5))) ad2 F q x em2 cs w := by
        have base : ∀ {a : Nat} {e : sd_E}, im G n2 ρ2 (updK K' n' (aI (n3 j) last m5 (F 5))) a e → a ≠ n' → im G n2 ρ2 (updK K' n' (aI (n3 (j + 1)) (n3 j) m5 (F 5))) a e := fun h hne => ⟨h.1, h.2.1, by
          have := h.2.2
          rw [show updK K' n' (aI (n3 j) last m5 (F 5)) _ = K' _ from if_neg hne] at this
          rw [show updK K' n' (aI (n3 (j + 1)) (n3 j) m5 (F 5)) _ = K' _ from if_neg hne]
          exact this⟩
        refine ⟨A2.1, A2.2.1, ?_, A2.2.2.2.1, A2.2.2.2.2⟩
        have A4 := sF_K (n' := n' + 1) (K' := updK K' n' (aI (n3 (j + 1)) (n3 j) m5 (F 5))) A'.2.2.1 (Nat.le_succ n') (fun a ha => if_neg (by omega))
        exact sF_mono A4 X2 hP.1.2
      have w3h : wfH G (hSo G n2 ρ2 (updK K' n' (aI (n3 (j + 1)) (n3 j) m5 (F 5))) ad2 F q x mc2 em2 w) := by
        have h8 := wfH_up (a := n') (e := aI (n3 (j + 1)) (n3 j) m5 (F 5)) w2h ((nh_out hn2).trans updK_same)
        unfold hSo at h8 ⊢
        rw [nh_upK hn2, updK_up] at h8
        exact h8
      obtain ⟨c, c1, c2⟩ := ev_order (mc := mc2) (k := j) A3 (by
        rcases p7 with p7 | ⟨p7, p8⟩
        · exact Or.inl (isTs_mono (fun _ _ h => moU _ h.1) (Nat.le_refl _) _ _ _ _ (Nat.le_refl _) p7)
        · exact Or.inr ⟨moU _ p7.1, p8⟩)
      obtain ⟨v, v1, v2⟩ := ev_sum (mc := mc2) A3 420 9 se _ (isSm_mono (fun _ _ h => moU (n3 j) h.1) (Nat.le_refl _) _ _ _ _ _ _ (Nat.le_refl _) (Nat.le_refl _) p6)
      have e2 : valP q x w (2 * j) = v := by
        rw [valP_prt, v1]
        rfl
      obtain ⟨t1, t2⟩ := tolS_lt (t := w) (k := j) hP
      rw [e2] at t2
      have fin : ∀ (n4 : Nat) (ρ4 : Nat → Option Nat) (ad4 : Nat → Nat) (mc4 : Nat → Int32) (em4 : Nat → Bool) (b4 : Nat × Nat), xt n2 ρ2 ad2 em2 n4 ρ4 ad4 em4 → bd (q 20) b2 em2 b4 em4 → sA G n4 ρ4 (updK K' n' (aI (n3 (j + 1)) (n3 j) m5 (F 5))) ad4 F q x em4 cs (ordT q x w j) → wp (k2 (ad' 0, n3 m, n3 i, n')) (hSo G n4 ρ4 (updK K' n' (aI (n3 (j + 1)) (n3 j) m5 (F 5))) ad4 F q x mc4 em4 (ordT q x w j)) b4 Q := by
        intro n4 ρ4 ad4 mc4 em4 b4 X4 B4 A4
        refine K2 () _ _ ⟨n4, ρ4, ad4, mc4, em4, ordT q x w j, n3 j, X2.trans X4, B2.trans B4, A4, ok3_ordT hP A2.2.2.2.2 w3, wfH_X w3h A3.1 A4.1 X4, rfl, ?_⟩
        rw [← f, show q 32 - j = (q 32 - (j + 1)) + 1 by omega]
        rfl
      have same : carO q x w j = (false, w) → ordT q x w j = w := by
        intro h
        unfold ordT
        rw [h]
        show (upd w.1 1 (w.1 1 + 0), w.2) = w
        rw [Int32.add_zero, upd_self]
      rw [← had2]
      rw [← had2] at fin
      rw [wp_bnd, wp_cast (im_lk (moU _ p2.1)) (by decide), wp_bnd, wp_getR (k := 2) (v := te) (im_lk (moU _ p2.1)) rfl, wp_bnd, c2]
      cases c with
      | false =>
        rw [if_pos bI_f]
        have hc : carO q x w j = (false, w) := by
          unfold carO
          rw [if_neg (by rw [c1]; decide)]
        have := fin n2 ρ2 ad2 mc2 em2 b2 xt.refl bd.refl (by rw [same hc]; exact A3)
        rw [same hc] at this
        exact this
      | true =>
        rw [if_neg (by decide), wp_bnd, wp_getR (k := 0) (v := cr) (im_lk (moU _ p2.1)) rfl, wp_bnd, wp_getR (k := 1) (v := se) (im_lk (moU _ p2.1)) rfl, wp_bnd, (s_rd A3).2.2.2.2.2.2.2.2.2.2.2.2.1, wp_bnd]
        show wp (fX3_told G (pRS G 449) (ad2 0) se) _ _ _
        rw [s_told A3 (v2 449 (by omega)), t2, wp_bnd]
        have hcar : ∀ r, carT q x w (n3 (11 + jj)) (tolS q x w j) = r → carO q x w j = (match r with
            | some u => (true, u)
            | none => (false, w)) := by
          intro r hr
          unfold carO
          rw [if_pos (by rw [c1]; rfl), p5, hr]
          cases r <;> rfl
        refine s_carry A3 w3 p3 (moU _ p4.1) t1 (bd_rq B2 (show rq (q 20) (b'.1 - 1, b'.2 - 4) em' from ⟨by show cE em' (q 20) ≤ b'.1 - 1; omega, by show 10 * cE em' (q 20) ≤ b'.2 - 4; omega⟩)) (fun h => ?_) (fun u' n4 ρ4 ad4 mc4 em4 b4 h X4 B4 A4 => ?_)
        · rw [if_pos rfl]
          have := fin n2 ρ2 ad2 mc2 em2 b2 xt.refl bd.refl (by rw [same (hcar _ h)]; exact A3)
          rw [same (hcar _ h)] at this
          exact this
        · rw [if_neg (by decide)]
          have had4 : ad4 0 = ad2 0 := X4.ad (by omega)
          rw [← had4]
          rw [← had4] at fin
          simp only [↓wp_bnd, ↓wp_ret, ↓wp_ite, ↓reduceIte, s_rd A4]
          rw [s_putN (i := 1) A4 (by omega)]
          have e5 : ordT q x w j = numT u' 1 (u'.1 1 + 1) := by
            unfold ordT
            rw [hcar _ h]
            rfl
          have := fin n4 ρ4 ad4 mc4 em4 b4 X4 B4 (by rw [e5]; exact sA_num A4 (by decide))
          rw [e5] at this
          exact this
end SP
