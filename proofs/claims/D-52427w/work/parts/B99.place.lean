/-! THE PLAIN LAW: a place, raw -/
/-- the stacks laid -/
def STK (x : Nat → Nat → Int32) (ad : Nat → Nat) (mc : Nat → Int32) (ns st F2 : Nat) (h : sd_H) : Prop := (∃ m r c f, h.2 F2 = some (aL m r ns) ∧ h.2 r = some (aR c f) ∧ ns ≤ c ∧ c ≤ 1000 ∧ ∀ s, s < ns → f s = some (ad (10 + s))) ∧ (∀ s, s < ns → h.2 (ad (10 + s)) = some (aL (mc s) (ad (20 + s)) st) ∧ h.2 (ad (20 + s)) = some (aR 10 (fun k => if k < st then some (ad (100 + (10 * s + k))) else none))) ∧ ∀ s k, s < ns → k < st → h.2 (ad (100 + (10 * s + k))) = some (.inr (3, [.int (n3 k), .int (x 30 (10 * s + k)), .int (x 31 (10 * s + k)), .int 0]))
/-- a place that is free: for a spring, for a find -/
def gdP (a1 : Int32) (x : Nat → Nat → Int32) (c : Nat) : Prop := if a1 = 0 then x 31 c = 0 else x 30 c = -1
theorem FL_bx {G : sd_G} {u : Nat → Nat} {sz n0 : Nat} {E : Int32 → Nat → Prop} {h : sd_H} {β : Nat × Nat} {α γ : Type} {K : α → sd_M (γ ⊕ Nat)} {Q : γ ⊕ Nat → sd_H → Nat × Nat → Prop} {Q' : α ⊕ Nat → sd_H → Nat × Nat → Prop} (kf : FL G u sz n0 E h β Q) (hQ : ∀ q h' b', wp (sd_ret (.inr q)) h' b' Q → Q' (.inr q) h' b') : FL G u sz n0 E h β Q' := fun er t h' q b' q1 q2 q3 q4 q5 => hQ q h' b' (by rw [wp_ret]; exact kf er t h' q b' q1 q2 q3 q4 q5)
section LPL
variable {G : sd_G} {u : Nat → Nat} {sz n0 n1 tl so m rd k : Nat} {ta tx : Nat → Nat} {w : Int32} {ky nd iv : Nat → Nat} {kt : Nat → List Nat} {β b : Nat × Nat} {h h' : sd_H} {d v p : Nat} {E : Int32 → Nat → Prop} {x : Nat → Nat → Int32} {ad : Nat → Nat} {mcs : Nat → Int32}
theorem xf_STK {i ns st F2 : Nat} (R : RW G u sz n0 tl ta tx rd w so m k ky nd iv kt n1 i d h) (X : xf rd (nmA u sz tx) h h') (S : STK x ad mcs ns st F2 h) : STK x ad mcs ns st F2 h' := by
  obtain ⟨⟨m', r, c, f, s1, s2, s3⟩, s4, s5⟩ := S
  exact ⟨⟨m', r, c, f, xf_o R X s1 (by decide) (by decide), xf_a R X s2, s3⟩, fun s hs => ⟨xf_o R X (s4 s hs).1 (by decide) (by decide), xf_a R X (s4 s hs).2⟩, fun s k hs hk => xf_o R X (s5 s k hs hk) (by decide) (by decide)⟩
theorem n3_rng1 {a n : Nat} (ha : a < 1000000) (hn : n < 1000000) : (¬ n3 a < 0 ∧ ¬ n3 n - 1 < n3 a) ↔ a < n := by
  rw [n3_sub1 _ _ (by omega), show (0 : Int32) = n3 0 from rfl, n3_lt (by omega) (by omega), n3_le (by omega) (by omega)]
  omega
theorem w_place {a1 st ns : Int32} {nsN stN E0 : Nat} {F : Nat → Nat} {Q : Nat ⊕ Nat → sd_H → Nat × Nat → Prop} (C : wlC G) (R : RW G u sz n0 tl ta tx rd w so m k ky nd iv kt n1 p d h) (hrd : n0 ≤ rd) (hn0 : n0 ≤ h.1) (hi : p ≤ nT u sz) (hso : h.2 so = some (aSo st ns F E0)) (hb : bud β b v) (hv : 10 ≤ v) (HS : w ≠ 0 → ns = n3 nsN ∧ st = n3 stN ∧ nsN ≤ 8 ∧ stN ≤ 10 ∧ STK x ad mcs nsN stN (F 2) h) (kf : FL G u sz n0 E h β Q)
    (e1 : kdT u sz p ≠ 8 → E 1 p) (e2 : kdT u sz p = 8 → kdT u sz (p + 1) ≠ 31 → E 1 (p + 1)) (e3 : kdT u sz p = 8 → kdT u sz (p + 1) = 31 → w ≠ 0 → nsN ≤ nbT u sz (p + 1) → E 5 (p + 1)) (e4 : kdT u sz p = 8 → kdT u sz (p + 1) = 31 → kdT u sz (p + 2) ≠ 44 → E 1 (p + 2)) (e5 : kdT u sz p = 8 → kdT u sz (p + 1) = 31 → kdT u sz (p + 2) = 44 → kdT u sz (p + 3) ≠ 31 → E 1 (p + 3)) (e6 : w ≠ 0 → nbT u sz (p + 1) < nsN → stN ≤ nbT u sz (p + 3) → E 5 (p + 3)) (e7 : w ≠ 0 → nbT u sz (p + 1) < nsN → nbT u sz (p + 3) < stN → ¬ gdP a1 x (10 * nbT u sz (p + 1) + nbT u sz (p + 3)) → E 2 (p + 3))
    (k0 : ∀ h' b', w = 0 → kdT u sz p = 8 → kdT u sz (p + 1) = 31 → kdT u sz (p + 2) = 44 → kdT u sz (p + 3) = 31 → p + 4 ≤ nT u sz → RW G u sz n0 tl ta tx rd w so m k ky nd iv kt n1 (p + 4) d h' → xf rd (nmA u sz tx) h h' → h'.2 h.1 = some (.inr (3, [.int 0, .int (-1), .int 0, .int 0])) → bud β b' (v - 1) → Q (.inl h.1) h' b')
    (k1 : ∀ h', w ≠ 0 → kdT u sz p = 8 → kdT u sz (p + 1) = 31 → kdT u sz (p + 2) = 44 → kdT u sz (p + 3) = 31 → p + 4 ≤ nT u sz → nbT u sz (p + 1) < nsN → nbT u sz (p + 3) < stN → gdP a1 x (10 * nbT u sz (p + 1) + nbT u sz (p + 3)) → RW G u sz n0 tl ta tx rd w so m k ky nd iv kt n1 (p + 4) d h' → xf rd (nmA u sz tx) h h' → h'.1 = h.1 → Q (.inl (ad (100 + (10 * nbT u sz (p + 1) + nbT u sz (p + 3))))) h' b) : wp (fX7_place G rd a1) h b Q := by
  have hb1 := hb.1
  have hb2 := hb.2
  unfold fX7_place
  refine w_tk C R hrd hn0 hi (n := 111) (c := 8) (by decide) hb (by omega) kf e1 (fun h1 c1 R1 X1 nh1 => ?_)
  have hi1 := tk_lt31 hi c1 (by decide) (by decide)
  have so1 := xf_o R X1 hso (by decide) (by decide)
  rw [wp_bnd, (rd_rd (RW_in R1).2.1).2.2.2.2.1, wp_bnd, (aSo_rd so1).2.1]
  refine w_num C R1 hrd (by omega) hi1 hb (by omega) (FL_fz kf (fz_xf R hrd hn0 X1)) (e2 c1) (fun q1 q2 q3 => ?_) (fun h2 c2 p2 R2 X2 nh2 => ?_)
  · obtain ⟨s1, s2, s3, s4, -⟩ := HS q2
    rw [s1, n3_rng1 ((kd_nw (tk_lt31 hi1 q1 (by decide) (by decide))).1 q1) (by omega)] at q3
    exact e3 c1 q1 q2 (Nat.le_of_not_lt q3)
  have hi2 := tk_lt31 hi1 c2 (by decide) (by decide)
  have nb1 : nbT u sz (p + 1) < 1000000 := (kd_nw hi2).1 c2
  have X02 := X1.trans X2
  refine w_tk C R2 hrd (by omega) hi2 (n := 112) (c := 44) (by decide) hb (by omega) (FL_fz kf (fz_xf R hrd hn0 X02)) (e4 c1 c2) (fun h3 c3 R3 X3 nh3 => ?_)
  have hi3 : p + 3 ≤ nT u sz := tk_lt31 hi2 c3 (by decide) (by decide)
  have X03 := X02.trans X3
  have so3 := xf_o R X03 hso (by decide) (by decide)
  rw [wp_bnd, w_isC R3, wp_bnd, c_now (RW_in R3).1 (RW_in R3).2.1 hi3, wp_bnd, (rd_rd (RW_in R3).2.1).2.2.2.2.1, wp_bnd, (aSo_rd so3).1]
  have ok1 : w ≠ 0 → nbT u sz (p + 1) < nsN := by
    intro q
    obtain ⟨s1, s2, s3, s4, -⟩ := HS q
    have := p2.resolve_left q
    rw [s1, n3_rng1 nb1 (by omega)] at this
    exact this
  refine w_num C R3 hrd (by omega) hi3 hb (by omega) (FL_fz kf (fz_xf R hrd hn0 X03)) (e5 c1 c2 c3) (fun q1 q2 q3 => ?_) (fun h4 c4 p4 R4 X4 nh4 => ?_)
  · obtain ⟨s1, s2, s3, s4, -⟩ := HS q2
    rw [s2, n3_rng1 ((kd_nw (tk_lt31 hi3 q1 (by decide) (by decide))).1 q1) (by omega)] at q3
    exact e6 q2 (ok1 q2) (Nat.le_of_not_lt q3)
  have hi4 : p + 4 ≤ nT u sz := tk_lt31 hi3 c4 (by decide) (by decide)
  have nb3 : nbT u sz (p + 3) < 1000000 := (kd_nw hi4).1 c4
  have X04 := X03.trans X4
  have nh04 : h4.1 = h.1 := by omega
  rw [wp_bnd, (rd_rd (RW_in R4).2.1).2.2.2.1, wp_ite]
  by_cases w0 : w = 0
  · rw [if_pos w0, wp_bnd]
    refine wp_new (by omega) (by omega) ?_
    unfold fX4_init
    rw [wp_bnd, wp_bnd, wp_put (pu_at _ _) (Nat.le_of_ble_eq_true rfl) rfl rfl, wp_bnd, wp_put (up_at _ _ _) (Nat.le_of_ble_eq_true rfl) rfl rfl, wp_ret, wp_ret, up_up, pu_up]
    have R5 : RW G u sz n0 tl ta tx rd w so m k ky nd iv kt n1 (p + 4) d (sd_pu h4 (.inr (3, [.int 0, .int (-1), .int 0, .int 0]))) := RW_pu R4
    have k0 := k0 (sd_pu h4 (.inr (3, [.int 0, .int (-1), .int 0, .int 0]))) (b.1 - 1, b.2 - 4) w0 c1 c2 c3 c4 hi4 R5 (X04.trans (xf_pu R4.1)) (by rw [← nh04]; exact pu_at _ _) (bud_new (c := 1) hb (by omega) (by omega))
    rw [← nh04] at k0
    exact k0
  · obtain ⟨s1, s2, s3, s4, S⟩ := HS w0
    have ok3 : nbT u sz (p + 3) < stN := by
      have := p4.resolve_left w0
      rw [s2, n3_rng1 nb3 (by omega)] at this
      exact this
    have S4 := xf_STK R X04 S
    have so4 := xf_o R X04 hso (by decide) (by decide)
    obtain ⟨⟨m', r, c, f, t1, t2, t3, t4, t5⟩, t6, t7⟩ := S4
    obtain ⟨u1, u2⟩ := t6 _ (ok1 w0)
    have u3 := t7 _ _ (ok1 w0) ok3
    have lf1 := sd_look_new (G := G) t1
    have lu1 := sd_look_new (G := G) u1
    have lu3 := sd_look_new (G := G) u3
    have g1 : ∀ b (Q : Nat → sd_H → Nat × Nat → Prop), wp (fJ2_get G (F 2) (n3 (nbT u sz (p + 1)))) h4 b Q = Q (ad (10 + nbT u sz (p + 1))) h4 b := fun b Q => j_get lf1 (sd_look_new t2) (ok1 w0) t3 (by omega) (t5 _ (ok1 w0))
    have g2 : ∀ b (Q : Nat → sd_H → Nat × Nat → Prop), wp (fJ2_get G (ad (10 + nbT u sz (p + 1))) (n3 (nbT u sz (p + 3)))) h4 b Q = Q (ad (100 + (10 * nbT u sz (p + 1) + nbT u sz (p + 3)))) h4 b := fun b Q => j_get lu1 (sd_look_new u2) ok3 s4 (by omega) (if_pos ok3)
    rw [if_neg w0, wp_bnd, (rd_rd (RW_in R4).2.1).2.2.2.2.1, wp_bnd, (aSo_rd so4).2.2.1, wp_bnd, wp_isC lf1, wp_bnd, g1, wp_bnd, wp_cast lu1 (by decide), wp_bnd, wp_isC lu1, wp_bnd, g2, wp_bnd, wp_cast lu3 (by decide), wp_ite]
    have kf4 := FL_fz kf (fz_xf R hrd hn0 X04)
    have good : gdP a1 x (10 * nbT u sz (p + 1) + nbT u sz (p + 3)) → wp (fX7_place_b114 G (ta (p + 3)) (ad (100 + (10 * nbT u sz (p + 1) + nbT u sz (p + 3)))) 2 rd) h4 b Q := by
      intro q
      unfold fX7_place_b114
      refine w_chk R4 (by omega) hi3 hb (by omega) kf4 (fun _ q => absurd q (by decide)) (fun _ => ?_)
      rw [wp_ret]
      exact k1 h4 w0 c1 c2 c3 c4 hi4 (ok1 w0) ok3 q R4 X04 nh04
    have bad : ¬ gdP a1 x (10 * nbT u sz (p + 1) + nbT u sz (p + 3)) → wp (sd_bnd (sd_isC G 6 rd) fun _ => sd_bx (fX7_check G rd 2 0 (ta (p + 3))) (fun e120 => sd_ret (.inr e120)) fun _ => sd_ret (.inl (ad (100 + (10 * nbT u sz (p + 1) + nbT u sz (p + 3)))))) h4 b Q := by
      intro q
      refine w_chk R4 (by omega) hi3 hb (by omega) kf4 (fun q1 _ => e7 q1 (ok1 w0) ok3 q) (fun q1 => ?_)
      rcases q1 with q1 | q1
      · exact absurd q1 w0
      · exact absurd rfl q1
    by_cases a0 : a1 = 0
    · rw [if_pos a0, wp_bnd, wp_getI lu3 rfl, wp_ite]
      by_cases c0 : x 31 (10 * nbT u sz (p + 1) + nbT u sz (p + 3)) = 0
      · rw [if_pos c0]
        exact good (by unfold gdP; rw [if_pos a0]; exact c0)
      · rw [if_neg c0]
        exact bad (by unfold gdP; rw [if_pos a0]; exact c0)
    · rw [if_neg a0, wp_bnd, wp_getI lu3 rfl, wp_ite]
      by_cases c0 : x 30 (10 * nbT u sz (p + 1) + nbT u sz (p + 3)) = -1
      · rw [if_pos c0]
        exact good (by unfold gdP; rw [if_neg a0]; exact c0)
      · rw [if_neg c0]
        exact bad (by unfold gdP; rw [if_neg a0]; exact c0)
end LPL
