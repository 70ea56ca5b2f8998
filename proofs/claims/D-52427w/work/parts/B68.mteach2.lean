/-! THE PLAIN LAW: the model learns: all of teach -/
/-- behind a teach that did: the new plan's naming and tables -/
def TS (G : sd_G) (ρ : Nat → Option Nat) (ad : Nat → Nat) (x : Nat → Nat → Int32) (u : Nat → Nat) (sz n0 : Nat) (L : List Ln) (S : SS) (m : Nat) (X : Nat → Nat → Int32) (h h' : sd_H) : Prop := ∃ n' K' v' y' t' q', (∀ j, 20 ≤ j → j ≤ 32 → X j = xP x j) ∧ lBook (kdT u sz) (nbT u sz) (nwT u sz) (q0S, (fun _ => 0), X) L = .inl S ∧ SL t' S v' y' ∧ (∀ j, 32 < j → S.2.2 j = X j) ∧ OT (kdT u sz) (flO (kdT u sz) L) (X 33) (X 34) (X 35) (X 36) (X 37) m ∧ m ≤ 400 ∧ q' = resQ (X 36) (X 37) (S.2.2 9) m ∧ v' 3 = -1 ∧ v' 0 = 0 ∧ v' 2 = 0 ∧ S.2.2 1 = x 1 ∧ h' = hMo n' (rhoP ρ n0) (updN (adP ad n0) 4 n0) K' v' (sx (rx S.2.2 q') (enc (t0S (S.1 20) (S.1 21)))) y' ∧ mOk n' (rhoP ρ n0) (updN (adP ad n0) 4 n0)
section MT3
variable {n : Nat} {ρ : Nat → Option Nat} {ad : Nat → Nat} {K : Nat → Option sd_E} {v : Nat → Int32} {x : Nat → Nat → Int32} {y : Nat → Nat → Int64} {G : sd_G} {t : TT} {b : Nat × Nat} {h : sd_H} {q : Nat → Nat} {κ g : Nat → Int32} {ea th : Int32} {sz : Nat} {u : Nat → Nat}
theorem xP_sx {κ g e : Nat → Int32} {j : Nat} (h : 20 ≤ j) : xP (sx (s7 x κ g) e) j = xP x j := by
  have c : ¬ j < 20 := by omega
  unfold xP
  rw [if_neg c, if_neg c]
theorem KQ_old {a : Nat} (h : a < n) : KQ K n 80 a = K a := by
  unfold KQ updK KP
  rw [if_neg (by omega), if_neg (by omega), if_neg (by omega)]
theorem KQ_in {a : Nat} {e : sd_E} (h : KQ K n 80 a = some e) : K a = some e ∨ (n ≤ a ∧ a < n + 14) := by
  by_cases c : n ≤ a ∧ a < n + 14
  · exact Or.inr c
  · refine Or.inl ?_
    unfold KQ updK KP at h
    rw [if_neg (by omega), if_neg (by omega), if_neg (by omega)] at h
    exact h
theorem o_teach {Q : Int32 → sd_H → Nat × Nat → Prop} (M : MI ρ ad q x ea sz th h t) (w : wfH G h) (hW : strsC G (sd_ad G 18) kws) (hs : sz ≤ 2000) (hu : ∀ k, k < sz → x 1 k = n3 (u k)) (h256 : ∀ k, k < sz → u k < 256) (b1 : 14 ≤ b.1) (b2 : 2019 ≤ b.2)
    (kb : ∀ j h' x' b', pBook (kdT u sz) (vlT u sz) = .inr j → (∀ j, 20 ≤ j → x' j = x j) → x' 1 = x 1 → MI ρ ad q x' (n3 (plT u sz j)) 0 0 h' t → mf G ρ h h' → b.1 ≤ b'.1 + 14 → b.2 ≤ b'.2 + 2019 → Q 1 h' b')
    (ke : ∀ L X er k h' x' b', pBook (kdT u sz) (vlT u sz) = .inl L → (∀ j, 20 ≤ j → j ≤ 32 → X j = xP x j) → lBook (kdT u sz) (nbT u sz) (nwT u sz) (q0S, (fun _ => 0), X) L = .inr (er, k) → (∀ j, 20 ≤ j → x' j = x j) → x' 1 = x 1 → MI ρ ad q x' (n3 (plT u sz k)) 0 0 h' t → mf G ρ h h' → b.1 ≤ b'.1 + 14 → b.2 ≤ b'.2 + 2019 → Q (n3 er) h' b')
    (ks : ∀ L X S m h' b', pBook (kdT u sz) (vlT u sz) = .inl L → TS G ρ ad x u sz h.1 L S m X h h' → mf G ρ h h' → b.1 ≤ b'.1 + 14 → b.2 ≤ b'.2 + 2019 → Q 0 h' b') : wp (fX5_teach G (ad 0)) h b Q := by
  obtain ⟨n, K, v, y, κ, g, rfl, E, hp, hv, hP, hO, ok, h0, h2, h3⟩ := M
  have ks : ∀ L X S m h' b', pBook (kdT u sz) (vlT u sz) = .inl L → TS G ρ ad x u sz n L S m X (hMo n ρ ad K v (sx (s7 x κ g) (enc t)) y) h' → mf G ρ (hMo n ρ ad K v (sx (s7 x κ g) (enc t)) y) h' → b.1 ≤ b'.1 + 14 → b.2 ≤ b'.2 + 2019 → Q 0 h' b' := ks
  have hf := mOk_fr E
  have q24 := hP.2.2.2.1
  have far : ∀ j, 197 ≤ j → enc t j = 0 := by
    intro j hj
    rw [show j = 173 + (j - 173) by omega, enc_ft]
    exact (ok.2.2.2.2.2.1 (j - 173)).2 (by omega)
  have p0 : ∀ v x y (b : Nat × Nat) (Q : Unit → sd_H → Nat × Nat → Prop), wp (sd_put 4 0 .int (ad 0) (.int 0)) (hMo n ρ ad K v x y) b Q = Q () (hMo n ρ ad K (upd v 0 0) x y) b := by
    intro v x y b Q
    simp (disch := omega) only [↓mFl E, ↓mPu E]
  have p3 : ∀ v x y (b : Nat × Nat) (Q : Unit → sd_H → Nat × Nat → Prop), wp (sd_put 4 3 .int (ad 0) (.int (-1))) (hMo n ρ ad K v x y) b Q = Q () (hMo n ρ ad K (upd v 3 (-1)) x y) b := by
    intro v x y b Q
    simp (disch := omega) only [↓mFl E, ↓mPu E]
  unfold fX5_teach
  rw [wp_bnd, p0, wp_bnd, p3, wp_bnd]
  refine wp_new (by omega) (by omega) ?_
  rw [mo_pu E]
  show wp (sd_bnd (fX6_init G n) _) _ _ Q
  rw [wp_bnd]
  refine m_plan hf (by simp only; omega) (by simp only; omega) (fun b' c1 c2 => ?_)
  simp only at c1 c2
  have d1 : b.1 ≤ b'.1 + 14 := by omega
  have d2 : b.2 ≤ b'.2 + 2019 := by omega
  -- the heap with the new plan named
  have wH1 : wfH G (hMo (n + 14) ρ ad (KQ K n 80) (upd (upd v 0 0) 3 (-1)) (sx (s7 x κ g) (enc t)) y) := wfH_K w E (by omega) (fun a e _ he => KQ_in he)
  have eR := ren_new (K := K) (v := upd (upd v 0 0) 3 (-1)) (x := sx (s7 x κ g) (enc t)) (y := y) E
  have wH2 := wH1
  rw [eR] at wH2 ⊢
  -- frames
  have mfr : ∀ (v' : Nat → Int32) (x' : Nat → Nat → Int32) (y' : Nat → Nat → Int64) (ad' : Nat → Nat), mf G ρ (hMo n ρ ad K v (sx (s7 x κ g) (enc t)) y) (hMo (n + 14) (rhoP ρ n) ad' (hMo (n + 14) ρ ad (KQ K n 80) (upd (upd v 0 0) 3 (-1)) (sx (s7 x κ g) (enc t)) y).2 v' x' y') := by
    intro v' x' y' ad'
    refine ⟨Nat.le_add_right n 14, fun a ha hr => ?_, fun _ => ?_⟩
    · have ha : a < n := ha
      rw [show (hMo (n + 14) (rhoP ρ n) ad' (hMo (n + 14) ρ ad (KQ K n 80) (upd (upd v 0 0) 3 (-1)) (sx (s7 x κ g) (enc t)) y).2 v' x' y').2 a = (hMo (n + 14) ρ ad (KQ K n 80) (upd (upd v 0 0) 3 (-1)) (sx (s7 x κ g) (enc t)) y).2 a from nh_out (rhoP_no ha hr), show (hMo (n + 14) ρ ad (KQ K n 80) (upd (upd v 0 0) 3 (-1)) (sx (s7 x κ g) (enc t)) y).2 a = KQ K n 80 a from nh_out hr, show (hMo n ρ ad K v (sx (s7 x κ g) (enc t)) y).2 a = K a from nh_out hr, KQ_old ha]
    · obtain ⟨w1, w2, w3, w4⟩ := wH2
      refine ⟨fun a e ha => ?_, w2, w3, w4⟩
      unfold hMo at ha w1
      cases hr : rhoP ρ n a with
      | some i => exact w1 a _ (nh_at hr)
      | none =>
        rw [nh_out hr] at ha
        exact w1 a e ((nh_out hr).trans ha)
  -- back to the old naming
  have old : ∀ (v' : Nat → Int32) (x' : Nat → Nat → Int32) (y' : Nat → Nat → Int64) (z : Int32), v' 3 = z → v' 0 = 0 → v' 2 = 0 → lowX (xP (sx (s7 x κ g) (enc t))) x' → MI ρ ad q (fun j => if j < 20 then x' j else x j) z 0 0 (hMo (n + 14) (rhoP ρ n) (adP ad n) (hMo (n + 14) ρ ad (KQ K n 80) (upd (upd v 0 0) 3 (-1)) (sx (s7 x κ g) (enc t)) y).2 v' x' y') t := by
    intro v' x' y' z a3 a0 a2 lx
    refine ⟨n + 14, (hMo (n + 14) (rhoP ρ n) (adP ad n) (hMo (n + 14) ρ ad (KQ K n 80) (upd (upd v 0 0) 3 (-1)) (sx (s7 x κ g) (enc t)) y).2 v' x' y').2, (fun j => if j < 20 then v' j else upd (upd v 0 0) 3 (-1) j), (fun j => if j = 8 then y' 8 else y j), x' 16, x' 17, ?_, ⟨E.1, E.2.1, fun a i h => by have := E.2.2 a i h; omega⟩, hp, hv, okP_x (fun j hj => if_neg (by omega)) hP, okO_x (fun j hj => if_neg (by omega)) hO, ok, a0, a2, a3⟩
    have e2 := ren_old (K := K) (v := upd (upd v 0 0) 3 (-1)) (x := sx (s7 x κ g) (enc t)) (y := y) (N' := n + 14) (v' := v') (x' := x') (y' := y') E
    have e3 : (fun j => if j < 20 then x' j else sx (s7 x κ g) (enc t) j) = sx (s7 (fun j => if j < 20 then x' j else x j) (x' 16) (x' 17)) (enc t) := by
      funext j
      by_cases h15 : j = 15
      · subst h15
        exact lx 15 (by decide)
      · by_cases h16 : j = 16
        · subst h16
          rfl
        · by_cases h17 : j = 17
          · subst h17
            rfl
          · unfold sx s7
            rw [if_neg h15, if_neg h15, if_neg h16, if_neg h16, if_neg h17, if_neg h17]
    rw [e3] at e2
    exact e2
  refine tea2 (ad := adP ad n) (u := u) (sz := sz) (mOk_new E) wH2 hW h2 hs hu h256 rfl rfl rfl rfl rfl rfl (fun j hj => far j hj) (fun j v' x' y' q1 q2 q3 q4 q5 => ?_) (fun L X er k v' x' y' q1 q2 q3 q4 q5 q6 q7 => ?_) (fun L X S t' m v' y' q' q1 q2 q3 q4 q5 q6 q7 q8 q9 q10 q11 q12 => ?_)
  · exact kb j _ (fun j => if j < 20 then x' j else x j) b' q1 (fun j hj => if_neg (by omega)) (q5 1 (Or.inl rfl)) (old v' x' y' _ q2 q3 q4 q5) (mfr v' x' y' _) d1 d2
  · refine ke L X er k _ (fun j => if j < 20 then x' j else x j) b' q1 (fun j j1 j2 => ?_) q3 (fun j hj => if_neg (by omega)) (q7 1 (Or.inl rfl)) (old v' x' y' _ q4 q5 q6 q7) (mfr v' x' y' _) d1 d2
    rw [q2 j j1 j2]
    exact xP_sx (by omega)
  · refine ks L X S m _ b' q1 ⟨n + 14, _, v', y', t', q', fun j j1 j2 => ?_, q3, q4, q5, q6, q7, q8, q9, q10, q11, q12 1 (Or.inl rfl), rfl, mOk_4 (mOk_new E)⟩ (mfr _ _ _ _) d1 d2
    rw [q2 j j1 j2]
    exact xP_sx (by omega)
end MT3
