/-! THE PLAIN LAW: all cushions are laid -/
/-- a seat's stack under way: list a, array r, cushions c, k of them; made from n1 on -/
def SEk (G : sd_G) (n1 a r k cap : Nat) (mc : Int32) (f : Nat → Option Nat) (c : Nat → Nat) (h : sd_H) : Prop := lsO G h a mc r k cap f ∧ ((k = 0 ∧ cap = 0 ∧ r = sd_ad G 0) ∨ (1 ≤ k ∧ cap = 10 ∧ n1 ≤ r)) ∧ n1 ≤ a ∧ (∀ j, j < k → f j = some (c j) ∧ n1 ≤ c j ∧ h.2 (c j) = some (.inr (3, [.int (n3 j), .int (-1), .int 0, .int 0]))) ∧ ∀ j j', j < j' → j' < k → c j < c j'
section LAY
variable {G : sd_G} {so E0 : Nat} {F : Nat → Nat} {β : Nat × Nat}
theorem lay_in {ns st s a n1 : Nat} {h0 : sd_H} {K0 : Nat × Int32 → sd_M Nat} {Q : Nat → sd_H → Nat × Nat → Prop} (hst : st ≤ 10) (hn1 : n1 = h0.1) (w0 : wfH G h0) (hso : h0.2 so = some (aSo (n3 st) (n3 ns) F E0))
    (kk : ∀ h b mc r cap f c, wfH G h → n1 ≤ h.1 → (∀ z, z < n1 → h.2 z = h0.2 z) → SEk G n1 a r st cap mc f c h → bud β b 30 → wp (sd_bnd (sd_getR G 2 2 so) fun v5 => sd_bnd (sd_isC G 41 v5) fun _ => sd_bnd (fJ2_add G v5 a) fun r6 => sd_bnd (sd_ret (n3 s + 1)) fun x7 => K0 (so, x7)) h b Q) : ∀ (q k : Nat) (h : sd_H) (b : Nat × Nat) (mc : Int32) (r cap : Nat) (f : Nat → Option Nat) (c : Nat → Nat) (fuel : Nat), q + k = st → q < fuel → wfH G h → n1 ≤ h.1 → (∀ z, z < n1 → h.2 z = h0.2 z) → SEk G n1 a r k cap mc f c h → bud β b (30 + 5 * q) → wp (sd_loop (fun k s => fX3_lay_b27 G K0 k s.1 s.2.1 s.2.2.1 s.2.2.2) fuel (so, n3 s, a, n3 k)) h b Q := by
  have lso := (w0.1 _ _ hso).2
  intro q
  induction q with
  | zero =>
    intro k h b mc r cap f c fuel hk hf wf hn fr S hb
    cases fuel with
    | zero => omega
    | succ fuel =>
      have hk : k = st := by omega
      subst hk
      have so1 : h.2 so = some (aSo (n3 k) (n3 ns) F E0) := (fr so (by omega)).trans hso
      show wp (fX3_lay_b27 G K0 (sd_loop _ fuel) so (n3 s) a (n3 k)) h b Q
      unfold fX3_lay_b27
      rw [wp_bnd, (aSo_rd so1).1, wp_ite, if_pos (by rw [n3_le (by omega) (by omega)]; omega)]
      exact kk h b mc r cap f c wf hn fr S (bud_le hb (by omega))
  | succ q ih =>
    intro k h b mc r cap f c fuel hk hf wf hn fr S hb
    cases fuel with
    | zero => omega
    | succ fuel =>
      have so1 : h.2 so = some (aSo (n3 st) (n3 ns) F E0) := (fr so (by omega)).trans hso
      obtain ⟨s1, s2, s3, s4, s5⟩ := S
      have hb1 := hb.1
      have hb2 := hb.2
      show wp (fX3_lay_b27 G K0 (sd_loop _ fuel) so (n3 s) a (n3 k)) h b Q
      unfold fX3_lay_b27
      rw [wp_bnd, (aSo_rd so1).1, wp_ite, if_neg (by rw [n3_le (by omega) (by omega)]; omega), wp_bnd]
      refine wp_new (by omega) (by omega) ?_
      unfold fX4_init
      rw [wp_bnd, wp_bnd, wp_put (pu_at _ _) (Nat.le_of_ble_eq_true rfl) rfl rfl, wp_bnd, wp_put (up_at _ _ _) (Nat.le_of_ble_eq_true rfl) rfl rfl, wp_ret, up_up, pu_up]
      show wp _ (sd_pu h (.inr (3, [.int (n3 k), .int (-1), .int 0, .int 0]))) _ Q
      have w1 : wfH G (sd_pu h (.inr (3, [.int (n3 k), .int (-1), .int 0, .int 0]))) := wfH_pu wf
      have kp : ∀ z e, h.2 z = some e → (sd_pu h (.inr (3, [.int (n3 k), .int (-1), .int 0, .int 0]))).2 z = some e := fun z e hz => (pu_ne (by have := (wf.1 _ _ hz).2; omega)).trans hz
      have o1 := pu_at h (.inr (3, [.int (n3 k), .int (-1), .int 0, .int 0]))
      have n1' : (sd_pu h (.inr (3, [.int (n3 k), .int (-1), .int 0, .int 0]))).1 = h.1 + 1 := rfl
      have fr1 : ∀ z, z < n1 → (sd_pu h (.inr (3, [.int (n3 k), .int (-1), .int 0, .int 0]))).2 z = h0.2 z := fun z hz => (pu_ne (by omega)).trans (fr z hz)
      generalize sd_pu h (.inr (3, [.int (n3 k), .int (-1), .int 0, .int 0])) = h1 at w1 kp o1 n1' fr1 ⊢
      have L1 : lsO G h1 a mc r k cap f := by
        obtain ⟨l1, l2, l3⟩ := s1
        refine ⟨kp _ _ l1, ?_, l3⟩
        rcases l2 with q | ⟨q, q'⟩
        · exact Or.inl q
        · exact Or.inr ⟨kp _ _ q, q'⟩
      have okc : ∀ z j, h1.2 z = some (.inr (3, [.int (n3 j), .int (-1), .int 0, .int 0])) → sd_okQ G h1 4 (some z) = true := by
        intro z j hz
        unfold sd_okQ
        simp only [sd_look_new hz]
        rfl
      rw [wp_bnd, wp_isC (sd_look_new L1.1), wp_bnd]
      refine g_add w1 L1 (by omega) (fun j hj => by rw [(s4 j hj).1]; exact okc _ j (kp _ _ (s4 j hj).2.2)) (okc _ _ o1) (by show 1 ≤ b.1 - 1; omega) (by show 2 * k + 10 ≤ b.2 - 4; omega) (fun h2 r' cap' f' b2 w2 L2 k1 k2 k3 k4 k5 k6 k7 => ?_)
      have k6 : b.1 - 1 ≤ b2.1 + 1 := k6
      have k7 : b.2 - 4 ≤ b2.2 + (2 * k + 10) := k7
      rw [wp_bnd, wp_ret, show n3 k + 1 = n3 (k + 1) from n3_add k 1]
      have ra : n1 ≤ a := s3
      have rr' : ∀ z, z < n1 → z ≠ r ∨ h1.2 z = none := by
        intro z hz
        rcases s2 with ⟨-, -, q⟩ | ⟨-, -, q⟩
        · by_cases c : z = r
          · refine Or.inr ?_
            rw [c, q]
            exact (wfH_z0 w1).1
          · exact Or.inl c
        · exact Or.inl (by omega)
      have fr2 : ∀ z, z < n1 → h2.2 z = h0.2 z := by
        intro z hz
        rw [← fr1 z hz]
        rcases rr' z hz with q | q
        · exact k5 z (by omega) q (by omega)
        · by_cases c : z = r
          · rw [q]
            rcases s2 with ⟨-, -, q'⟩ | ⟨-, -, q'⟩
            · rw [c, q']
              exact (wfH_z0 w2).1
            · omega
          · exact k5 z (by omega) c (by omega)
      have cu2 : ∀ z j, h1.2 z = some (.inr (3, [.int (n3 j), .int (-1), .int 0, .int 0])) → h2.2 z = some (.inr (3, [.int (n3 j), .int (-1), .int 0, .int 0])) := by
        intro z j hz
        rw [k5 z ?_ ?_ (w1.1 _ _ hz).2]
        · exact hz
        · rintro rfl
          rw [L1.1] at hz
          cases hz
        · rintro rfl
          rcases L1.2.1 with ⟨q, -⟩ | ⟨q, -⟩
          · rw [q, (wfH_z0 w1).1] at hz
            cases hz
          · rw [q] at hz
            cases hz
      refine ih (k + 1) h2 b2 (mc + 1) r' cap' f' (updN c k h.1) fuel (by omega) (by omega) w2 (by omega) fr2 ⟨L2, ?_, s3, fun j hj => ?_, fun j j' hjj hj' => ?_⟩ ⟨by omega, by omega⟩
      · refine Or.inr ⟨by omega, ?_⟩
        rcases s2 with ⟨q1, q2, q3⟩ | ⟨q1, q2, q3⟩
        · rcases k4 with ⟨q4, q5⟩ | ⟨q4, q5, q6, q7⟩
          · have := L2.2.2.1
            omega
          · exact ⟨q7 q2, by omega⟩
        · rcases k4 with ⟨q4, q5⟩ | ⟨q4, q5, q6, q7⟩
          · exact ⟨by omega, by omega⟩
          · omega
      · by_cases cj : j = k
        · rw [cj, updN_same]
          exact ⟨k2, by omega, cu2 _ _ o1⟩
        · rw [updN_ne cj]
          obtain ⟨q1, q2, q3⟩ := s4 j (by omega)
          exact ⟨(k1 j (by omega)).trans q1, q2, cu2 _ _ (kp _ _ q3)⟩
      · rw [updN_ne (show j ≠ k by omega)]
        by_cases cj : j' = k
        · rw [cj, updN_same]
          exact (wf.1 _ _ (s4 j (by omega)).2.2).2
        · rw [updN_ne cj]
          exact s5 j j' hjj (by omega)
end LAY
