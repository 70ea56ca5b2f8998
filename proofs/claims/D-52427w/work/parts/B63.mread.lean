/-! THE PLAIN LAW: the model reads a tape -/
section MRD
variable {n : Nat} {ρ : Nat → Option Nat} {ad : Nat → Nat} {K : Nat → Option sd_E} {v : Nat → Int32} {x : Nat → Nat → Int32} {y : Nat → Nat → Int64} {G : sd_G} {b : Nat × Nat} {m : Nat}
def rx (x : Nat → Nat → Int32) (r : Nat → Int32) : Nat → Nat → Int32 := fun j => if j = 37 then r else x j
theorem rx_up {r : Nat → Int32} {k : Nat} {z : Int32} : up2 (rx x r) 37 k z = rx x (upd r k z) := by
  funext j
  unfold up2
  by_cases h : j = 37
  · subst h
    rfl
  · rw [if_neg h]
    unfold rx
    rw [if_neg h, if_neg h]
theorem resQ_no {p q w : Nat → Int32} {k : Nat} (h : ¬ abR (p k, q k)) : resQ p q w (k + 1) = resQ p q w k := by
  funext j
  unfold resQ
  by_cases c : j = k
  · subst c
    rw [if_neg (fun h9 => h h9.2), if_neg (fun h9 => by omega)]
  · by_cases c2 : j < k ∧ (p j = 19 ∨ p j = 20 ∨ p j = 22)
    · rw [if_pos c2, if_pos ⟨by omega, c2.2⟩]
    · rw [if_neg c2, if_neg (fun h9 => c2 ⟨by omega, h9.2⟩)]
theorem resQ_at {p q w : Nat → Int32} {k : Nat} : resQ p q w k k = q k := if_neg (fun h => by omega)
theorem resQ_st {p q w : Nat → Int32} {k tk : Nat} (h : abR (p k, q k)) (hq : q k = n3 tk) (ht : tk ≤ 400) : upd (resQ p q w k) k (w tk) = resQ p q w (k + 1) := by
  funext j
  unfold upd
  by_cases c : j = k
  · subst c
    rw [if_pos rfl]
    unfold resQ
    rw [if_pos ⟨by omega, h⟩, hq, n3_nn (by omega)]
  · rw [if_neg c]
    unfold resQ
    by_cases c2 : j < k ∧ (p j = 19 ∨ p j = 20 ∨ p j = 22)
    · rw [if_pos c2, if_pos ⟨by omega, c2.2⟩]
    · rw [if_neg c2, if_neg (fun h9 => c2 ⟨by omega, h9.2⟩)]
theorem m_setP {Q : Unit → sd_H → Nat × Nat → Prop} (E : mOk n ρ ad) (h38 : v 38 = n3 m) (hm : m ≤ 800) (hr : ∀ k, k < m → abR (x 36 k, x 37 k) → ∃ tk, tk ≤ 400 ∧ x 37 k = n3 tk) (kk : Q () (hMo n ρ ad K v (rx x (resQ (x 36) (x 37) (x 9) m)) y) b) : wp (fX5_settle G (ad 0) (ad 20)) (hMo n ρ ad K v x y) b Q := by
  have a36 : ∀ k (b : Nat × Nat) (Q : Int32 → sd_H → Nat × Nat → Prop) (r : Nat → Int32), k < m → wp (sd_aldI G 0 (ad 36) (n3 k)) (hMo n ρ ad K v (rx x r) y) b Q = Q (x 36 k) (hMo n ρ ad K v (rx x r) y) b := fun k b Q r hk => hMo_ald (i := 36) E (by decide) (by decide) (by decide) (by decide) (by decide) (show k < 800 by omega)
  have a37 : ∀ k (b : Nat × Nat) (Q : Int32 → sd_H → Nat × Nat → Prop) (r : Nat → Int32), k < m → wp (sd_aldI G 0 (ad 37) (n3 k)) (hMo n ρ ad K v (rx x r) y) b Q = Q (r k) (hMo n ρ ad K v (rx x r) y) b := fun k b Q r hk => hMo_ald (i := 37) E (by decide) (by decide) (by decide) (by decide) (by decide) (show k < 800 by omega)
  have a9 : ∀ k (b : Nat × Nat) (Q : Int32 → sd_H → Nat × Nat → Prop) (r : Nat → Int32), k ≤ 400 → wp (sd_aldI G 0 (ad 9) (n3 k)) (hMo n ρ ad K v (rx x r) y) b Q = Q (x 9 k) (hMo n ρ ad K v (rx x r) y) b := fun k b Q r hk => hMo_ald (i := 9) E (by decide) (by decide) (by decide) (by decide) (by decide) (show k < 401 by omega)
  have s37 : ∀ k z (b : Nat × Nat) (Q : Unit → sd_H → Nat × Nat → Prop) (r : Nat → Int32), k < m → wp (sd_astI 0 (ad 37) (n3 k) z) (hMo n ρ ad K v (rx x r) y) b Q = Q () (hMo n ρ ad K v (rx x (upd r k z)) y) b := by
    intro k z b Q r hk
    have := hMo_ast (K := K) (v := v) (x := rx x r) (y := y) (b := b) (Q := Q) (z := z) (i := 37) E (by decide) (by decide) (by decide) (by decide) (by decide) rfl (show k < 800 by omega)
    rw [rx_up] at this
    exact this
  have key : ∀ (r k fu : Nat), k + r = m → r < fu → wp (sd_loop (fun k s => fX5_settle_b2 G k s.1 s.2.1 s.2.2) fu (ad 0, ad 20, n3 k)) (hMo n ρ ad K v (rx x (resQ (x 36) (x 37) (x 9) k)) y) b Q := by
    intro r
    induction r with
    | zero =>
      intro k fu h1 h2
      obtain ⟨fu, rfl⟩ : ∃ q, fu = q + 1 := ⟨fu - 1, by omega⟩
      have : k = m := by omega
      subst this
      show wp (fX5_settle_b2 G _ (ad 0) (ad 20) (n3 k)) _ b Q
      unfold fX5_settle_b2
      rw [wp_bnd, hMo_getI5 E rfl, h38, wp_ite, if_pos (by rw [n3_le (by omega) (by omega)]; exact Nat.le_refl _), wp_ret]
      exact kk
    | succ r ih =>
      intro k fu h1 h2
      obtain ⟨fu, rfl⟩ : ∃ q, fu = q + 1 := ⟨fu - 1, by omega⟩
      have hk : k < m := by omega
      have ih := ih (k + 1) fu (by omega) (by omega)
      show wp (fX5_settle_b2 G (sd_loop (fun k s => fX5_settle_b2 G k s.1 s.2.1 s.2.2) fu) (ad 0) (ad 20) (n3 k)) _ b Q
      rw [fX5_settle_b2, wp_bnd, hMo_getI5 E rfl, h38, wp_ite, if_neg (by rw [n3_le (by omega) (by omega)]; omega), wp_bnd, hMo_getR5 E rfl, wp_bnd, a36 k _ _ _ hk]
      have b35 : abR (x 36 k, x 37 k) → wp (fX5_settle_b35 G (sd_loop (fun k s => fX5_settle_b2 G k s.1 s.2.1 s.2.2) fu) (ad 0) (ad 20) (n3 k)) (hMo n ρ ad K v (rx x (resQ (x 36) (x 37) (x 9) k)) y) b Q := by
        intro ha
        obtain ⟨tk, t1, t2⟩ := hr k hk ha
        unfold fX5_settle_b35
        rw [wp_bnd, hMo_getR5 E rfl, wp_bnd, hMo_getR4 E rfl, wp_bnd, hMo_getR5 E rfl, wp_bnd, a37 k _ _ _ hk, resQ_at, t2, wp_bnd, a9 tk _ _ _ t1, wp_bnd, s37 k _ _ _ _ hk, resQ_st ha t2 t1, wp_bnd, wp_ret, n3_suc]
        exact ih
      rw [wp_ite]
      by_cases c1 : x 36 k = 19
      · rw [if_pos c1]
        exact b35 (Or.inl c1)
      · rw [if_neg c1, wp_ite]
        by_cases c2 : x 36 k = 20
        · rw [if_pos c2]
          exact b35 (Or.inr (Or.inl c2))
        · rw [if_neg c2, wp_ite]
          by_cases c3 : x 36 k = 22
          · rw [if_pos c3]
            exact b35 (Or.inr (Or.inr c3))
          · rw [if_neg c3, wp_bnd, wp_ret, n3_suc]
            rw [resQ_no (not_ab c1 c2 c3)] at ih
            exact ih
  have e0 : rx x (resQ (x 36) (x 37) (x 9) 0) = x := by
    funext j
    unfold rx
    by_cases h : j = 37
    · subst h
      rw [if_pos rfl]
      funext k
      exact if_neg (fun h => by omega)
    · rw [if_neg h]
  have := key m 0 sd_FU (by omega) (by unfold sd_FU; omega)
  rw [e0] at this
  exact this
/-- numbers and names of tokens -/
def nbT (u : Nat → Nat) (sz k : Nat) : Nat := nmV (txT u sz k)
def nwT (u : Nat → Nat) (sz k : Nat) : Nat := nmW (txT u sz k)
def vlT (u : Nat → Nat) (sz k : Nat) : Int32 := n3 (nbT u sz k)
theorem tkT {u : Nat → Nat} {sz : Nat} : tkN (kdT u sz) (nT u sz) := by
  refine ⟨nT_le, ?_⟩
  have := nT_stop (u := u) (sz := sz)
  unfold spT at this
  simp only [Bool.or_eq_true, decide_eq_true_eq] at this
  exact this
theorem kd_lt {u : Nat → Nat} {sz k : Nat} (h256 : ∀ k, k < sz → u k < 256) : kdT u sz k < 1000 := by
  unfold kdT
  split
  · omega
  · split
    · omega
    · exact knP_lt h256 (by omega)
theorem kd_nw {u : Nat → Nat} {sz k : Nat} (hk : k < nT u sz) : (kdT u sz k = 31 → nbT u sz k < 1000000) ∧ (kdT u sz k = 30 → nwT u sz k < 9223372036854775808) := by
  obtain ⟨h1, h2, h3, -, -⟩ := tk_lt hk
  rw [h3]
  unfold knP
  constructor
  · intro h
    split at h
    · next c =>
      split at h
      · next c6 =>
        have := nmV_lt (txT u sz k).length (txT u sz k) rfl (dig_tx c)
        unfold nbT
        have l6 : (txT u sz k).length ≤ 6 := by
          unfold txT
          rw [txP_len]
          exact c6
        have : 10 ^ (txT u sz k).length ≤ 10 ^ 6 := Nat.pow_le_pow_right (by omega) l6
        omega
      · cases h
    · split at h
      · split at h
        · rcases kwI_lt (txP u (plT u sz k) (enP u sz (plT u sz k))) with h0 | h0 <;> omega
        · cases h
      · split at h
        · omega
        · split at h
          · next hs =>
            rw [h] at hs
            cases hs
          · cases h
  · intro h
    split at h
    · split at h <;> cases h
    · split at h
      · next c =>
        split at h
        · next c10 =>
          exact n6_lt (okN_tx c) (by unfold txT; rw [txP_len]; exact c10)
        · cases h
      · split at h
        · omega
        · split at h
          · next hs =>
            rw [h] at hs
            cases hs
          · cases h
theorem kd_30 {u : Nat → Nat} {sz k : Nat} (hk : k ≤ nT u sz) (h : kdT u sz k = 30 ∨ kdT u sz k = 31) : k < nT u sz := by
  by_cases c : k = nT u sz
  · subst c
    rcases (tkT (u := u) (sz := sz)).2 with h1 | h1 <;> omega
  · omega
end MRD
