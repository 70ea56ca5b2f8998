/-! THE PLAIN LAW: a new plan of the model -/
/-- the arrays of a plan, in the order in which they are made -/
def arrs (k : Nat) : sd_E := if k = 0 then .inl (1, 6, .inr (.inl fun _ => 0)) else if k = 1 then .inl (0, 6, .inl fun _ => 0) else if k = 2 then .inl (0, 6, .inl fun _ => 0) else if k = 3 then .inl (3, 24, .inl fun _ => 0) else if k = 4 then .inl (0, 24, .inl fun _ => 0) else if k = 5 then .inl (0, 24, .inl fun _ => 0) else if k = 6 then .inl (0, 80, .inl fun _ => 0) else if k = 7 then .inl (3, 80, .inl fun _ => 0) else if k = 8 then .inl (0, 16, .inl fun _ => 0) else if k = 9 then .inl (0, 32, .inl fun _ => 0) else if k = 10 then .inl (0, 32, .inl fun _ => 0) else .inl (0, 800, .inl fun _ => 0)
/-- the plan and its first k arrays, from o on -/
def KP (K : Nat → Option sd_E) (o k : Nat) (fs : List Value) : Nat → Option sd_E := fun a => if a = o then some (.inr (5, fs)) else if o < a ∧ a ≤ o + k then some (arrs (a - o - 1)) else K a
theorem KP_at {K : Nat → Option sd_E} {o k : Nat} {fs : List Value} : KP K o k fs o = some (.inr (5, fs)) := if_pos rfl
theorem KP_arr {K : Nat → Option sd_E} {o k j : Nat} {fs : List Value} (h : j < k) : KP K o k fs (o + 1 + j) = some (arrs j) := by
  unfold KP
  rw [if_neg (by omega), if_pos (by omega), show o + 1 + j - o - 1 = j by omega]
theorem KP_set {K : Nat → Option sd_E} {o k : Nat} {fs fs' : List Value} : updK (KP K o k fs) o (.inr (5, fs')) = KP K o k fs' := by
  funext a
  unfold updK KP
  by_cases h : a = o
  · rw [if_pos h, if_pos h]
  · rw [if_neg h, if_neg h, if_neg h]
theorem KP_new {K : Nat → Option sd_E} {o k : Nat} {fs : List Value} : updK (KP K o k fs) (o + 1 + k) (arrs k) = KP K o (k + 1) fs := by
  funext a
  unfold updK KP
  by_cases h : a = o + 1 + k
  · rw [if_pos h, if_neg (by omega), if_pos (by omega), h, show o + 1 + k - o - 1 = k by omega]
  · rw [if_neg h]
    by_cases h1 : a = o
    · rw [if_pos h1, if_pos h1]
    · rw [if_neg h1, if_neg h1]
      by_cases h2 : o < a ∧ a ≤ o + k
      · rw [if_pos h2, if_pos (by omega)]
      · rw [if_neg h2, if_neg (by omega)]
section MPL
variable {n : Nat} {ρ : Nat → Option Nat} {ad : Nat → Nat} {K : Nat → Option sd_E} {v : Nat → Int32} {x : Nat → Nat → Int32} {y : Nat → Nat → Int64} {G : sd_G} {b : Nat × Nat} {k j l : Nat} {fs : List Value}
/-- names free from n on -/
def frN (n : Nat) (ρ : Nat → Option Nat) : Prop := ∀ a, n ≤ a → ρ a = none
theorem ini_put {z : Value} {ty : FieldType} {β : Type} {r : sd_M β} {Q : β → sd_H → Nat × Nat → Prop} {N : Nat} (hf : frN n ρ) (hj : j < fs.length) (h1 : narrow ty z = z) (h2 : fits ty z = true) : wp (sd_bnd (sd_put 5 j ty n z) fun _ => r) (hMo N ρ ad (KP K n k fs) v x y) b Q = wp r (hMo N ρ ad (KP K n k (fs.set j z)) v x y) b Q := by
  have ho := hf n (Nat.le_refl _)
  unfold hMo
  rw [wp_bnd, wp_put ((nh_out ho).trans KP_at) hj h1 h2, nh_upK ho, KP_set]
theorem ini_arr {t : Nat} {a : Int32} {ty : FieldType} {β : Type} {r : sd_M β} {Q : β → sd_H → Nat × Nat → Prop} (hf : frN n ρ) (ha : a = n3 l) (hk : arrs k = .inl (t, l, .inl fun _ => 0)) (hl : l ≤ 800) (b1 : 1 ≤ b.1) (b2 : l ≤ b.2) (hj : j < fs.length) (h1 : ∀ q, narrow ty (.ref q) = .ref q) (h2 : ∀ q, fits ty (.ref q) = true) (kk : wp r (hMo (n + 1 + (k + 1)) ρ ad (KP K n (k + 1) (fs.set j (.ref (n + 1 + k)))) v x y) (b.1 - 1, b.2 - l) Q) : wp (sd_bnd (sd_newI t a) fun o => sd_bnd (sd_put 5 j ty n (.ref o)) fun _ => r) (hMo (n + 1 + k) ρ ad (KP K n k fs) v x y) b Q := by
  have ho := hf (n + 1 + k) (by omega)
  rw [wp_bnd, ha]
  refine wp_newI (by omega) b1 b2 ?_
  show wp (sd_bnd (sd_put 5 j ty n (.ref (n + 1 + k))) fun _ => r) (sd_pu (nh (n + 1 + k) ρ (cM ad v x y) (KP K n k fs)) _) _ Q
  rw [nh_pu ho, ← hk, KP_new]
  show wp _ (hMo (n + 1 + k + 1) ρ ad (KP K n (k + 1) fs) v x y) _ Q
  rw [ini_put hf hj (h1 _) (h2 _)]
  exact kk
theorem ini_arL {a : Int32} {ty : FieldType} {β : Type} {r : sd_M β} {Q : β → sd_H → Nat × Nat → Prop} (hf : frN n ρ) (ha : a = n3 l) (hk : arrs k = .inl (1, l, .inr (.inl fun _ => 0))) (hl : l ≤ 800) (b1 : 1 ≤ b.1) (b2 : l ≤ b.2) (hj : j < fs.length) (h1 : ∀ q, narrow ty (.ref q) = .ref q) (h2 : ∀ q, fits ty (.ref q) = true) (kk : wp r (hMo (n + 1 + (k + 1)) ρ ad (KP K n (k + 1) (fs.set j (.ref (n + 1 + k)))) v x y) (b.1 - 1, b.2 - l) Q) : wp (sd_bnd (sd_newL a) fun o => sd_bnd (sd_put 5 j ty n (.ref o)) fun _ => r) (hMo (n + 1 + k) ρ ad (KP K n k fs) v x y) b Q := by
  have ho := hf (n + 1 + k) (by omega)
  rw [wp_bnd, ha]
  refine wp_newL (by omega) b1 b2 ?_
  show wp (sd_bnd (sd_put 5 j ty n (.ref (n + 1 + k))) fun _ => r) (sd_pu (nh (n + 1 + k) ρ (cM ad v x y) (KP K n k fs)) _) _ Q
  rw [nh_pu ho, ← hk, KP_new]
  show wp _ (hMo (n + 1 + k + 1) ρ ad (KP K n (k + 1) fs) v x y) _ Q
  rw [ini_put hf hj (h1 _) (h2 _)]
  exact kk
/-- the fields of a new plan at o -/
def plF (o : Nat) : List Value := [.int 4, .int 6, .int 0, .ref (o + 1 + 0), .ref (o + 1 + 1), .ref (o + 1 + 2), .int 0, .ref (o + 1 + 3), .ref (o + 1 + 4), .ref (o + 1 + 5), .ref (o + 1 + 6), .ref (o + 1 + 7), .int 0, .ref (o + 1 + 8), .ref (o + 1 + 9), .ref (o + 1 + 10), .ref (o + 1 + 11), .ref (o + 1 + 12), .int 0]
/-- no finds yet -/
def nofd (i : Nat) : Nat → Int32 := fun k => if k < i then -1 else 0
/-- with the table of finds set -/
def KQ (K : Nat → Option sd_E) (o i : Nat) : Nat → Option sd_E := updK (KP K o 13 (plF o)) (o + 1 + 6) (.inl (0, 80, .inl (nofd i)))
theorem nofd_st {i : Nat} : upd (nofd i) i (-1) = nofd (i + 1) := by
  funext k
  unfold upd nofd
  by_cases h : k = i
  · rw [if_pos h, if_pos (by omega)]
  · rw [if_neg h]
    by_cases h1 : k < i
    · rw [if_pos h1, if_pos (by omega)]
    · rw [if_neg h1, if_neg (by omega)]
theorem m_plan {Q : Unit → sd_H → Nat × Nat → Prop} (hf : frN n ρ) (b1 : 13 ≤ b.1) (b2 : 2000 ≤ b.2) (kk : ∀ b', b.1 ≤ b'.1 + 13 → b.2 ≤ b'.2 + 2000 → Q () (hMo (n + 14) ρ ad (KQ K n 80) v x y) b') : wp (fX6_init G n) (hMo (n + 1) ρ ad (updK K n (.inr (5, [.int 0, .int 0, .int 0, .null, .null, .null, .int 0, .null, .null, .null, .null, .null, .int 0, .null, .null, .null, .null, .null, .int 0]))) v x y) b Q := by
  have e0 : updK K n (.inr (5, [.int 0, .int 0, .int 0, .null, .null, .null, .int 0, .null, .null, .null, .null, .null, .int 0, .null, .null, .null, .null, .null, .int 0])) = KP K n 0 [.int 0, .int 0, .int 0, .null, .null, .null, .int 0, .null, .null, .null, .null, .null, .int 0, .null, .null, .null, .null, .null, .int 0] := by
    funext a
    unfold updK KP
    by_cases h : a = n
    · rw [if_pos h, if_pos h]
    · rw [if_neg h, if_neg h, if_neg (by omega)]
  rw [e0]
  unfold fX6_init
  rw [ini_put hf (by simp) rfl rfl, ini_put hf (by simp) rfl rfl]
  refine ini_arL (k := 0) (l := 6) hf rfl rfl (by omega) (by omega) (by omega) (by simp) (fun _ => rfl) (fun _ => rfl) ?_
  refine ini_arr (k := 1) (l := 6) hf rfl rfl (by omega) (by simp only; omega) (by simp only; omega) (by simp) (fun _ => rfl) (fun _ => rfl) ?_
  refine ini_arr (k := 2) (l := 6) hf rfl rfl (by omega) (by simp only; omega) (by simp only; omega) (by simp) (fun _ => rfl) (fun _ => rfl) ?_
  refine ini_arr (k := 3) (l := 24) hf rfl rfl (by omega) (by simp only; omega) (by simp only; omega) (by simp) (fun _ => rfl) (fun _ => rfl) ?_
  refine ini_arr (k := 4) (l := 24) hf rfl rfl (by omega) (by simp only; omega) (by simp only; omega) (by simp) (fun _ => rfl) (fun _ => rfl) ?_
  refine ini_arr (k := 5) (l := 24) hf rfl rfl (by omega) (by simp only; omega) (by simp only; omega) (by simp) (fun _ => rfl) (fun _ => rfl) ?_
  refine ini_arr (k := 6) (l := 80) hf rfl rfl (by omega) (by simp only; omega) (by simp only; omega) (by simp) (fun _ => rfl) (fun _ => rfl) ?_
  refine ini_arr (k := 7) (l := 80) hf rfl rfl (by omega) (by simp only; omega) (by simp only; omega) (by simp) (fun _ => rfl) (fun _ => rfl) ?_
  refine ini_arr (k := 8) (l := 16) hf rfl rfl (by omega) (by simp only; omega) (by simp only; omega) (by simp) (fun _ => rfl) (fun _ => rfl) ?_
  refine ini_arr (k := 9) (l := 32) hf rfl rfl (by omega) (by simp only; omega) (by simp only; omega) (by simp) (fun _ => rfl) (fun _ => rfl) ?_
  refine ini_arr (k := 10) (l := 32) hf rfl rfl (by omega) (by simp only; omega) (by simp only; omega) (by simp) (fun _ => rfl) (fun _ => rfl) ?_
  refine ini_arr (k := 11) (l := 800) hf rfl rfl (by omega) (by simp only; omega) (by simp only; omega) (by simp) (fun _ => rfl) (fun _ => rfl) ?_
  refine ini_arr (k := 12) (l := 800) hf rfl rfl (by omega) (by simp only; omega) (by simp only; omega) (by simp) (fun _ => rfl) (fun _ => rfl) ?_
  have kk := kk (b.1 - 1 - 1 - 1 - 1 - 1 - 1 - 1 - 1 - 1 - 1 - 1 - 1 - 1, b.2 - 6 - 6 - 6 - 24 - 24 - 24 - 80 - 80 - 16 - 32 - 32 - 800 - 800) (by simp only; omega) (by simp only; omega)
  show wp (sd_loop (fun k s => fX6_init_b123 G k s.1 s.2) sd_FU (n, 0)) (hMo (n + 14) ρ ad (KP K n 13 (plF n)) v x y) (b.1 - 1 - 1 - 1 - 1 - 1 - 1 - 1 - 1 - 1 - 1 - 1 - 1 - 1, b.2 - 6 - 6 - 6 - 24 - 24 - 24 - 80 - 80 - 16 - 32 - 32 - 800 - 800) Q
  revert kk
  generalize (b.1 - 1 - 1 - 1 - 1 - 1 - 1 - 1 - 1 - 1 - 1 - 1 - 1 - 1, b.2 - 6 - 6 - 6 - 24 - 24 - 24 - 80 - 80 - 16 - 32 - 32 - 800 - 800) = b9
  intro kk
  have eq0 : KP K n 13 (plF n) = KQ K n 0 := by
    unfold KQ
    funext a
    unfold updK
    by_cases h : a = n + 1 + 6
    · rw [if_pos h, h, KP_arr (by omega)]
      rfl
    · rw [if_neg h]
  rw [eq0]
  have hm := hf (n + 1 + 6) (by omega)
  have hn := hf n (Nat.le_refl _)
  refine wp_for 80 (fun i (_ : Unit) => (n, n3 i)) (fun i _ h' b' => h' = hMo (n + 14) ρ ad (KQ K n i) v x y ∧ b' = b9) ?_ ?_ sd_FU 0 () _ b9 (Nat.zero_le _) (by unfold sd_FU; omega) ⟨rfl, rfl⟩
  · rintro K0 a h' b' ⟨rfl, rfl⟩
    show wp (fX6_init_b123 G K0 n (n3 80)) _ _ Q
    unfold fX6_init_b123
    rw [wp_ite, if_pos (by decide), wp_ret]
    exact kk
  · rintro K0 i a h' b' hi ⟨rfl, rfl⟩ nx
    have nx := nx () _ _ ⟨rfl, rfl⟩
    show wp (fX6_init_b123 G K0 n (n3 i)) _ _ Q
    unfold fX6_init_b123
    have lk : sd_look G (hMo (n + 14) ρ ad (KQ K n i) v x y) n = some (.inr (5, plF n)) := by
      refine sd_look_new ((nh_out hn).trans ?_)
      unfold KQ updK
      rw [if_neg (by omega)]
      exact KP_at
    have la : (hMo (n + 14) ρ ad (KQ K n i) v x y).2 (n + 1 + 6) = some (.inl (0, 80, .inl (nofd i))) := (nh_out hm).trans (if_pos rfl)
    rw [wp_ite, if_neg (by rw [show (80 : Int32) = n3 80 from rfl, n3_le (by omega) (by omega)]; omega), wp_bnd, wp_getR lk rfl, wp_bnd, wp_astI la (n3_ix hi (by omega)), n3_nn (by omega), wp_bnd, wp_ret, n3_suc]
    have eh : sd_up (hMo (n + 14) ρ ad (KQ K n i) v x y) (n + 1 + 6) (.inl (0, 80, .inl (upd (nofd i) i (sd_nar 0 (-1))))) = hMo (n + 14) ρ ad (KQ K n (i + 1)) v x y := by
      unfold hMo
      rw [nh_upK hm]
      unfold KQ
      rw [updK_updK, show sd_nar 0 (-1) = -1 from rfl, nofd_st]
    rw [eh]
    exact nx
end MPL
