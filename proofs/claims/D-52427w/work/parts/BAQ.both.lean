/-! THE PLAIN LAW: both learn -/
theorem and_255 (z : Int32) : ∃ c, c < 256 ∧ z &&& 255 = n3 c := by
  refine ⟨(z.toBitVec &&& 255#32).toNat, ?_, ?_⟩
  · rw [BitVec.toNat_and]
    exact Nat.and_lt_two_pow _ (n := 8) (by decide)
  · apply Int32.toBitVec_inj.mp
    show z.toBitVec &&& 255#32 = BitVec.ofNat 32 (z.toBitVec &&& 255#32).toNat
    rw [BitVec.ofNat_toNat, BitVec.setWidth_eq]
theorem and_nn (z : Int32) : z &&& 255 = n3 (z &&& 255).toNatClampNeg ∧ (z &&& 255).toNatClampNeg < 256 := by
  obtain ⟨c, h1, h2⟩ := and_255 z
  rw [h2, n3_nn (by omega)]
  exact ⟨rfl, h1⟩
theorem ar_q1 {B1 b1 c1 r sz N : Nat} (h0 : 8600 * r + 8600 + 300 * sz ≤ B1) (hN : N ≤ sz) (h1 : B1 ≤ b1 + (7 * sz + 100 * (N + 1) + 900)) (h2 : b1 ≤ c1 + 14) : 8600 * r + 300 * 0 ≤ c1 := by omega
theorem ar_q2 {B1 b1 c1 r sz N : Nat} (h0 : 111000 * r + 111000 + 4000 * sz ≤ B1) (hN : N ≤ sz) (h1 : B1 ≤ b1 + (1000 * sz + 2000 * (N + 1) + 20000)) (h2 : b1 ≤ c1 + 2019) : 111000 * r + 4000 * 0 ≤ c1 := by omega
theorem ar_q3 {B1 r sz N : Nat} (h0 : 8600 * r + 8600 + 300 * sz ≤ B1) (hN : N ≤ sz) : 7 * sz + 100 * (N + 1) + 900 ≤ B1 := by omega
theorem ar_q7 {B1 r sz N c : Nat} (hc : c = 1000 * sz + 2000 * (N + 1) + 20000) (h0 : 111000 * r + 111000 + 4000 * sz ≤ B1) (hN : N ≤ sz) : c ≤ B1 := by omega
theorem ar_q4 {B1 r sz N : Nat} (h0 : 111000 * r + 111000 + 4000 * sz ≤ B1) (hN : N ≤ sz) : 1000 * sz + 2000 * (N + 1) + 20000 ≤ B1 := ar_q7 rfl h0 hN
theorem ar_q5 {B1 b1 r sz N : Nat} (h0 : 8600 * r + 8600 + 300 * sz ≤ B1) (hN : N ≤ sz) (h1 : B1 ≤ b1 + (7 * sz + 100 * (N + 1) + 900)) : 14 ≤ b1 := by omega
theorem ar_q6 {B1 b1 r sz N : Nat} (h0 : 111000 * r + 111000 + 4000 * sz ≤ B1) (hN : N ≤ sz) (h1 : B1 ≤ b1 + (1000 * sz + 2000 * (N + 1) + 20000)) : 2019 ≤ b1 := by omega
theorem rhoP_old {ρ : Nat → Option Nat} {n a : Nat} (h : a < n) (hr : ρ a = none) : rhoP ρ n a = none := by
  unfold rhoP
  rw [if_neg (by omega), hr]
section BTH
variable {t t' : TT} {b : Nat × Nat} {G : sd_G} {cx tp bt s0 E1 : Nat} {B : Nat → Nat} {Z : Nat → Prop} {q : Nat → Nat} {x : Nat → Nat → Int32} {ea : Int32} {sz : Nat} {bs : Nat → Int32} {h h' : sd_H} {ρ : Nat → Option Nat} {ad : Nat → Nat} {th : Int32} {o : Nat} {u : Nat → Nat}
theorem CI_E1 (C : CI G cx tp bt s0 E1 B Z q x ea sz bs h t) : E1 < h.1 := by
  obtain ⟨-, -, -, -, -, -, -, n, ρ, K, ad, F, mc, em, cs, R, rfl, A, -, -, -, -, rfl⟩ := C
  exact A.1.2.2 _ _ (A.1.1 3 (by unfold sV; omega))
theorem CI_B1 (C : CI G cx tp bt s0 E1 B Z q x ea sz bs h t) : B 1 < h.1 := by
  obtain ⟨wf, -, -, -, -, -, -, n, ρ, K, ad, F, mc, em, cs, R, rfl, A, -, H, -⟩ := C
  obtain ⟨e, h1, -⟩ := H.2.1
  exact (wf.1 _ _ h1).2
/-- rows of the trees are well made -/
theorem CI_okO (C : CI G cx tp bt s0 E1 B Z q x ea sz bs h t) (ha : ∀ k, k < q 32 → ∀ p, p = 2 * k ∨ p = 2 * k + 1 → ∃ i0 i1, x 34 p = n3 i0 ∧ x 35 p = n3 i1 ∧ i0 ≤ i1 ∧ i1 ≤ 800) : okO q x := by
  obtain ⟨-, -, -, -, -, -, -, n, ρ, K, ad, F, mc, em, cs, R, -, -, O, -⟩ := C
  obtain ⟨m, r, c, f, -, -, -, -, h5⟩ := O
  intro k hk
  obtain ⟨a, cr, se, te, j, -, -, -, -, -, s1, s2⟩ := h5 k hk
  refine ⟨okR_of (ha k hk _ (Or.inl rfl)) (ck_sm _ _ _ _ s1 0), ?_⟩
  rcases s2 with s2 | ⟨-, s2⟩
  · exact ⟨1, Nat.le_refl _, okR_of (ha k hk _ (Or.inr rfl)) (ck_ts _ _ _ s2 0)⟩
  · exact ⟨0, by omega, okR_of (ha k hk _ (Or.inr rfl)) (by rw [s2]; rfl)⟩
theorem MI_cfr (M : MI ρ ad q x ea sz th h t) (C : CI G cx tp bt s0 E1 B Z q x ea sz bs h t) (hn : h.1 ≤ h'.1) (f : ∀ a, a < h.1 → a ≠ cx → a ≠ tp → h'.2 a = h.2 a) : MI ρ ad q x ea sz th h' t := by
  obtain ⟨-, -, -, -, c1, -, c3, -⟩ := C
  refine MI_keep M hn (fun a i hr => ?_)
  obtain ⟨e, h1, h2⟩ := MI_at M hr
  have lt : a < h.1 := by
    obtain ⟨n, K, v, y, κ, g, rfl, E, -⟩ := M
    exact E.2.2 a i hr
  refine f a lt (fun c => ?_) (fun c => ?_)
  · subst c
    rw [c3] at h1
    cases h1
    cases h2
  · subst c
    rw [c1] at h1
    cases h1
    cases h2
theorem teach_ok {cm : Nat} (Cw : wlC G) (Kc : crC G) (I : icC G) (hW : strsC G (sd_ad G 2) kws) (hW2 : strsC G (sd_ad G 18) kws) (hSy : strC G (sd_ad G 102) syms) : TEACH G cx cm o := by
  intro r h b N Q J nx
  obtain ⟨tp, bt, s0, E1, B, Z, q, x, ea, sz, bs, ρ, ad, th, t, ⟨C, M, n1, n2, n3', n4, n5, ⟨g, ho⟩, tp', hsz⟩, rfl, zt, zb, zc, b1, b2⟩ := J
  rw [Nat.mul_add, Nat.mul_one] at b1 b2
  have lo : o < h.1 := (C.1.1 _ _ ho).2
  have ocx : o ≠ cx := by
    rintro rfl
    have := C.2.2.2.2.2.2.1
    rw [ho] at this
    cases this
  have otp : o ≠ tp := by
    rintro rfl
    have := C.2.2.2.2.1
    rw [ho] at this
    cases this
  have hu : ∀ k, k < sz → bs k &&& 255 = n3 ((fun k => (bs k &&& 255).toNatClampNeg) k) ∧ (fun k => (bs k &&& 255).toNatClampNeg) k < 256 := fun k _ => and_nn (bs k)
  generalize (fun k => (bs k &&& 255).toNatClampNeg) = u at hu
  have hN := nT_sz (u := u) (sz := sz)
  have lbl : ∀ a i, ρ a = some i → a < h.1 := by
    obtain ⟨n, K, v, y, κ, g, rfl, E, -⟩ := id M
    exact E.2.2
  have sr0 : ∀ X, (∀ j, 20 ≤ j → j ≤ 32 → X j = xP x j) → sR (q0S, (fun _ => 0), xP x) (q0S, (fun _ => 0), X) := fun X hX => ⟨rfl, rfl, hX⟩
  rw [wp_bnd, (c_rd C).1, wp_bnd]
  refine c_teach (X := xP x) (u := u) Cw Kc I hW hSy C hu hsz zt zb zc (fun c hc => ⟨?_, rfl⟩) (ar_q3 b1 hN) (ar_q4 b2 hN) (fun t0 h1 b' e1 C1 f1 m1 y1 y2 => ?_) (fun L e t0 h1 b' e1 e2 C1 f1 m1 y1 y2 => ?_) (fun L S s1 E2 Z2 h1 b' e1 e2 C1 zt' zb' zc' hE hfl w1 f1 m1 y1 y2 => ?_)
  · show (if c < 80 then (-1 : Int32) else 0) = -1
    rw [if_pos hc]
  · -- the form fails
    have M1 := MI_cfr M C m1 f1
    rw [wp_bnd, m_isC M1, wp_bnd]
    refine o_teach (u := u) M1 C1.1 hW2 hsz (fun k hk => (tp' k hk).trans (hu k hk).1) (fun k hk => (hu k hk).2) (ar_q5 b1 hN y1) (ar_q6 b2 hN y2) (fun j h2 x' b2' d1 hx hx1 M2 f2 v1 v2 => ?_) (fun L X er k h2 x' b2' d1 => ?_) (fun L X S m h2 b2' d1 => ?_)
    · rw [e1] at d1
      cases d1
      rw [wp_ite, if_pos rfl]
      have o2 : h2.2 o = some (.inl (1, 1, .inr (.inl g))) := (f2.2.1 o (by omega) n3').trans ((f1 o lo ocx otp).trans ho)
      exact nx _ _ ⟨tp, bt, s0, E1, B, Z, q, x', n3 (plT u sz t0), 0, bs, ρ, ad, 0, t, ⟨CI_x hx (CI_mf C1 M1 f2 n1 n2), M2, n1, n2, n3', n4, n5, ⟨g, o2⟩, fun k hk => absurd hk (Nat.not_lt_zero _), by omega⟩, rfl, zt, zb, zc, ar_q1 b1 hN y1 v1, ar_q2 b2 hN y2 v2⟩
    · rw [e1] at d1
      cases d1
    · rw [e1] at d1
      cases d1
  · -- the second look fails
    have M1 := MI_cfr M C m1 f1
    rw [wp_bnd, m_isC M1, wp_bnd]
    refine o_teach (u := u) M1 C1.1 hW2 hsz (fun k hk => (tp' k hk).trans (hu k hk).1) (fun k hk => (hu k hk).2) (ar_q5 b1 hN y1) (ar_q6 b2 hN y2) (fun j h2 x' b2' d1 => ?_) (fun L' X er k h2 x' b2' d1 d2 d3 hx hx1 M2 f2 v1 v2 => ?_) (fun L' X S m h2 b2' d1 T => ?_)
    · rw [e1] at d1
      cases d1
    · rw [e1] at d1
      cases d1
      have := (lBook_r (κ := kdT u sz) (nb := nbT u sz) (nw := nwT u sz) (L := L) (sr0 X d2)).1 _ e2
      rw [d3] at this
      cases this
      rw [wp_ite, if_pos rfl]
      have o2 : h2.2 o = some (.inl (1, 1, .inr (.inl g))) := (f2.2.1 o (by omega) n3').trans ((f1 o lo ocx otp).trans ho)
      exact nx _ _ ⟨tp, bt, s0, E1, B, Z, q, x', n3 (plT u sz t0), 0, bs, ρ, ad, 0, t, ⟨CI_x hx (CI_mf C1 M1 f2 n1 n2), M2, n1, n2, n3', n4, n5, ⟨g, o2⟩, fun k hk => absurd hk (Nat.not_lt_zero _), by omega⟩, rfl, zt, zb, zc, ar_q1 b1 hN y1 v1, ar_q2 b2 hN y2 v2⟩
    · rw [e1] at d1
      cases d1
      obtain ⟨n', K', v', y', t', q', d2, d3, -⟩ := T
      have := (lBook_r (κ := kdT u sz) (nb := nbT u sz) (nw := nwT u sz) (L := L) (sr0 X d2)).1 _ e2
      rw [d3] at this
      cases this
  · -- both take the new sofa
    have M1 := MI_cfr M C m1 f1
    rw [wp_bnd, m_isC M1, wp_bnd]
    refine o_teach (u := u) M1 w1 hW2 hsz (fun k hk => (tp' k hk).trans (hu k hk).1) (fun k hk => (hu k hk).2) (ar_q5 b1 hN y1) (ar_q6 b2 hN y2) (fun j h2 x' b2' d1 => ?_) (fun L' X er k h2 x' b2' d1 d2 d3 => ?_) (fun L' X S' m h2 b2' d1 T f2 v1 v2 => ?_)
    · rw [e1] at d1
      cases d1
    · rw [e1] at d1
      cases d1
      obtain ⟨S2, z1, -⟩ := (lBook_r (κ := kdT u sz) (nb := nbT u sz) (nw := nwT u sz) (L := L) (sr0 X d2)).2 _ e2
      rw [d3] at z1
      cases z1
    · rw [e1] at d1
      cases d1
      obtain ⟨n', K', v', y', t', q', d2, d3, d4, d5, d6, d7, rfl, d8, d9, d10, d11, rfl, d12⟩ := T
      obtain ⟨S2, z1, z2⟩ := (lBook_r (κ := kdT u sz) (nb := nbT u sz) (nw := nwT u sz) (L := L) (sr0 X d2)).2 _ e2
      rw [d3] at z1
      cases z1
      obtain ⟨g1, g2, g3⟩ := z2
      have okp : okP S'.1 S'.2.2 := lBook_ok d3 (okP_0 d2)
      have okp' : okP S'.1 (rx S'.2.2 (resQ (X 36) (X 37) (S'.2.2 9) m)) := okP_rows okp (fun j j1 j2 => if_neg (by omega))
      have fl16 : (flO (kdT u sz) L).length ≤ 16 := by
        rw [hfl, ← g1]
        exact okp.2.2.2.2.1
      have wkE : wkS S u sz = wkS S' u sz := by
        funext k
        unfold wkS fnd
        rw [g1, g2]
      have CN := C1 (rx S'.2.2 (resQ (X 36) (X 37) (S'.2.2 9) m)) (by rw [← g1]; exact okp') (fun j j1 j2 => (if_neg (by omega) : rx S'.2.2 (resQ (X 36) (X 37) (S'.2.2 9) m) j = S'.2.2 j).trans (g3 j j1 j2)) (by
        rw [wkE]
        exact rows_eq e1 d3 d5 d6 d7 fl16)
      rw [← g1] at CN hfl
      have lE := CI_E1 CN
      have lB := CI_B1 C
      have rE : ρ E2 = none := by
        cases hr : ρ E2 with
        | none => rfl
        | some i =>
          have := lbl _ _ hr
          omega
      have oko : okO S'.1 (rx S'.2.2 (resQ (X 36) (X 37) (S'.2.2 9) m)) := CI_okO CN (fun k hk p hp => by
        have hk2 : k < (flO (kdT u sz) L).length := by
          rw [hfl]
          exact hk
        exact rows_at d5 d6 d7 fl16 (List.getElem?_eq_getElem hk2) p hp)
      have CM := CI_mf CN M1 f2 rE n2
      rw [wp_ite, if_pos rfl]
      obtain ⟨l1, l2, l3, l4, l5, l6, l7, l8, l9, l10, l11, l12⟩ := d4
      have M2 : MI (rhoP ρ h1.1) (updN (adP ad h1.1) 4 h1.1) S'.1 (rx S'.2.2 (resQ (X 36) (X 37) (S'.2.2 9) m)) (-1) 0 0 (hMo n' (rhoP ρ h1.1) (updN (adP ad h1.1) 4 h1.1) K' v' (sx (rx S'.2.2 (resQ (X 36) (X 37) (S'.2.2 9) m)) (enc (t0S (S'.1 20) (S'.1 21)))) y') (t0S (S'.1 20) (S'.1 21)) := by
        refine ⟨n', K', v', y', rx S'.2.2 (resQ (X 36) (X 37) (S'.2.2 9) m) 16, rx S'.2.2 (resQ (X 36) (X 37) (S'.2.2 9) m) 17, ?_, d12, rfl, ⟨l2, l3, l4, l5, l6⟩, okp', oko, okT_t0 l8.1 l8.2 l9.2, d9, d10, d8⟩
        rw [s7_self]
      have o2 : (hMo n' (rhoP ρ h1.1) (updN (adP ad h1.1) 4 h1.1) K' v' (sx (rx S'.2.2 (resQ (X 36) (X 37) (S'.2.2 9) m)) (enc (t0S (S'.1 20) (S'.1 21)))) y').2 o = some (.inl (1, 1, .inr (.inl g))) := (f2.2.1 o (by omega) n3').trans ((f1 o lo ocx otp).trans ho)
      exact nx _ _ ⟨tp, bt, s1, E2, B, Z2, S'.1, _, -1, 0, bs, _, _, 0, _, ⟨CM, M2, rhoP_old lE rE, rhoP_old (by omega) n2, rhoP_old (by omega) n3', by omega, n5, ⟨g, o2⟩, fun k hk => absurd hk (Nat.not_lt_zero _), by omega⟩, rfl, zt', zb', zc', ar_q1 b1 hN y1 v1, ar_q2 b2 hN y2 v2⟩
end BTH
