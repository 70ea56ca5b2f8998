/-! THE PLAIN LAW: naming a new plan; filling the row -/
def pNm (k : Nat) : Nat := [20, 23, 24, 25, 27, 28, 29, 30, 31, 33, 34, 35, 36, 37].getD k 0
def pIx (i : Nat) : Nat := if i = 20 then 0 else if i = 23 then 1 else if i = 24 then 2 else if i = 25 then 3 else if i = 27 then 4 else if i = 28 then 5 else if i = 29 then 6 else if i = 30 then 7 else if i = 31 then 8 else if i = 33 then 9 else if i = 34 then 10 else if i = 35 then 11 else if i = 36 then 12 else 13
theorem pNm_ok : ∀ k, k < 14 → pNm k ∈ mN ∧ 20 ≤ pNm k ∧ pIx (pNm k) = k := by decide
theorem pIx_ok : ∀ i, i ∈ mN → 20 ≤ i → pIx i < 14 ∧ pNm (pIx i) = i := by decide
def rhoP (ρ : Nat → Option Nat) (n : Nat) : Nat → Option Nat := fun a => if n ≤ a then (if a < n + 14 then some (pNm (a - n)) else none) else match ρ a with
  | some i => if i < 20 then some i else none
  | none => none
def adP (ad : Nat → Nat) (n : Nat) : Nat → Nat := fun i => if i < 20 then ad i else n + pIx i
def vP (v : Nat → Int32) : Nat → Int32 := fun j => if j < 20 then v j else if j = 20 then 4 else if j = 21 then 6 else 0
def xP (x : Nat → Nat → Int32) : Nat → Nat → Int32 := fun j => if j < 20 then x j else if j = 30 then nofd 80 else fun _ => 0
def yP (y : Nat → Nat → Int64) : Nat → Nat → Int64 := fun j => if j = 8 then y 8 else fun _ => 0
section REN
variable {n : Nat} {ρ : Nat → Option Nat} {ad : Nat → Nat} {K : Nat → Option sd_E} {v v' : Nat → Int32} {x x' : Nat → Nat → Int32} {y y' : Nat → Nat → Int64} {G : sd_G} {b : Nat × Nat}
theorem mN_lo {i : Nat} (h : i ∈ mN) (hi : i < 20) : i = 0 ∨ i = 1 ∨ i = 5 ∨ i = 6 ∨ i = 7 ∨ i = 8 ∨ i = 9 ∨ i = 15 ∨ i = 16 ∨ i = 17 := by
  simp only [mN, List.mem_cons, List.not_mem_nil, or_false] at h
  omega
theorem mOk_fr (E : mOk n ρ ad) : frN n ρ := by
  intro a ha
  cases h : ρ a with
  | none => rfl
  | some i =>
    have := E.2.2 _ _ h
    omega
theorem mOk_new (E : mOk n ρ ad) : mOk (n + 14) (rhoP ρ n) (adP ad n) := by
  refine ⟨fun i hi => ?_, fun a i h => ?_, fun a i h => ?_⟩
  · unfold adP rhoP
    by_cases c : i < 20
    · have h1 := E.1 i hi
      have h2 := E.2.2 _ _ h1
      rw [if_pos c, if_neg (by omega), h1]
      show (if i < 20 then some i else none) = some i
      rw [if_pos c]
    · obtain ⟨p1, p2⟩ := pIx_ok i hi (by omega)
      rw [if_neg c, if_pos (by omega), if_pos (by omega), Nat.add_sub_cancel_left, p2]
  · unfold rhoP at h
    unfold adP
    by_cases c : n ≤ a
    · rw [if_pos c] at h
      by_cases c2 : a < n + 14
      · rw [if_pos c2] at h
        cases h
        obtain ⟨p1, p2, p3⟩ := pNm_ok (a - n) (by omega)
        rw [if_neg (by omega), p3]
        exact ⟨by omega, p1⟩
      · rw [if_neg c2] at h
        cases h
    · rw [if_neg c] at h
      cases hr : ρ a with
      | none =>
        rw [hr] at h
        cases h
      | some i' =>
        rw [hr] at h
        have h : (if i' < 20 then some i' else none) = some i := h
        by_cases c3 : i' < 20
        · rw [if_pos c3] at h
          cases h
          rw [if_pos c3]
          exact E.2.1 a i hr
        · rw [if_neg c3] at h
          cases h
  · unfold rhoP at h
    by_cases c : n ≤ a
    · rw [if_pos c] at h
      by_cases c2 : a < n + 14
      · exact c2
      · rw [if_neg c2] at h
        cases h
    · omega
theorem rhoP_lt {a i : Nat} (ha : a < n) (h : rhoP ρ n a = some i) : ρ a = some i ∧ i < 20 := by
  unfold rhoP at h
  rw [if_neg (by omega)] at h
  cases hr : ρ a with
  | none =>
    rw [hr] at h
    cases h
  | some i' =>
    rw [hr] at h
    have h : (if i' < 20 then some i' else none) = some i := h
    by_cases c3 : i' < 20
    · rw [if_pos c3] at h
      cases h
      exact ⟨rfl, c3⟩
    · rw [if_neg c3] at h
      cases h
theorem rhoP_no {a : Nat} (ha : a < n) (h : ρ a = none) : rhoP ρ n a = none := by
  unfold rhoP
  rw [if_neg (by omega), h]
/-- another naming of the same heap -/
theorem hMo_ren {h : sd_H} {ρ' : Nat → Option Nat} {ad' : Nat → Nat} (hc : ∀ a i, ρ' a = some i → h.2 a = some (cM ad' v' x' y' i)) : h = hMo h.1 ρ' ad' h.2 v' x' y' := by
  refine Prod.ext rfl (funext fun a => ?_)
  unfold hMo
  cases hr : ρ' a with
  | none => rw [nh_out hr]
  | some i =>
    rw [nh_at hr]
    exact hc a i hr
theorem cM_lo {ad' : Nat → Nat} {i : Nat} (hi : i ∈ mN) (h20 : i < 20) (ha : ∀ j, j < 20 → ad' j = ad j) (hv : ∀ j, j < 20 → v' j = v j) (hx : ∀ j, j < 20 → x' j = x j) (hy : y' 8 = y 8) : cM ad' v' x' y' i = cM ad v x y i := by
  have mf : mF ad' v' = mF ad v := by
    unfold mF
    rw [hv 0 (by decide), ha 1 (by decide), hv 2 (by decide), hv 3 (by decide), ha 4 (by decide), ha 5 (by decide), ha 6 (by decide), ha 7 (by decide), ha 8 (by decide), ha 9 (by decide), hv 10 (by decide), hv 11 (by decide), hv 12 (by decide), hv 13 (by decide), hv 14 (by decide), ha 15 (by decide), ha 16 (by decide), ha 17 (by decide)]
  unfold cM
  by_cases c0 : i = 0
  · rw [if_pos c0, if_pos c0, mf]
  · have c20 : ¬ i = 20 := by omega
    rw [if_neg c0, if_neg c0, if_neg c20, if_neg c20]
    by_cases c8 : i = 8 ∨ i = 23
    · have : i = 8 := by omega
      subst this
      rw [if_pos c8, if_pos c8, hy]
    · rw [if_neg c8, if_neg c8, hx i h20]
theorem KQ_arr {o j : Nat} (h : j < 13) : KQ K o 80 (o + 1 + j) = some (if j = 6 then .inl (0, 80, .inl (nofd 80)) else arrs j) := by
  unfold KQ updK
  by_cases c : j = 6
  · subst c
    rw [if_pos rfl, if_pos rfl]
  · rw [if_neg (by omega), if_neg c, KP_arr h]
theorem ren_new (E : mOk n ρ ad) : hMo (n + 14) ρ ad (KQ K n 80) v x y = hMo (n + 14) (rhoP ρ n) (adP ad n) (hMo (n + 14) ρ ad (KQ K n 80) v x y).2 (vP v) (xP x) (yP y) := by
  refine hMo_ren (h := hMo (n + 14) ρ ad (KQ K n 80) v x y) (fun a i h => ?_)
  by_cases c : a < n
  · obtain ⟨h1, h2⟩ := rhoP_lt c h
    have hm := (E.2.1 a i h1).2
    rw [show (hMo (n + 14) ρ ad (KQ K n 80) v x y).2 a = some (cM ad v x y i) from nh_at h1, cM_lo (ad := ad) (ad' := adP ad n) (v := v) (v' := vP v) (x := x) (x' := xP x) (y := y) (y' := yP y) hm h2 (fun j hj => if_pos hj) (fun j hj => if_pos hj) (fun j hj => if_pos hj) (if_pos rfl)]
  · have hr : ρ a = none := mOk_fr E a (by omega)
    rw [show (hMo (n + 14) ρ ad (KQ K n 80) v x y).2 a = KQ K n 80 a from nh_out hr]
    unfold rhoP at h
    rw [if_pos (by omega)] at h
    by_cases c2 : a < n + 14
    · rw [if_pos c2] at h
      cases h
      by_cases c0 : a = n
      · subst c0
        rw [Nat.sub_self]
        unfold KQ updK
        rw [if_neg (by omega), KP_at]
        rfl
      · obtain ⟨j, hj⟩ : ∃ j, a = n + 1 + j := ⟨a - n - 1, by omega⟩
        subst hj
        rw [KQ_arr (by omega), show n + 1 + j - n = j + 1 by omega]
        have : j = 0 ∨ j = 1 ∨ j = 2 ∨ j = 3 ∨ j = 4 ∨ j = 5 ∨ j = 6 ∨ j = 7 ∨ j = 8 ∨ j = 9 ∨ j = 10 ∨ j = 11 ∨ j = 12 := by omega
        rcases this with rfl | rfl | rfl | rfl | rfl | rfl | rfl | rfl | rfl | rfl | rfl | rfl | rfl <;> rfl
    · rw [if_neg c2] at h
      cases h
/-- back to the old plan -/
theorem ren_old {N' : Nat} (E : mOk n ρ ad) : hMo N' (rhoP ρ n) (adP ad n) (hMo (n + 14) ρ ad (KQ K n 80) v x y).2 v' x' y' = hMo N' ρ ad (hMo N' (rhoP ρ n) (adP ad n) (hMo (n + 14) ρ ad (KQ K n 80) v x y).2 v' x' y').2 (fun j => if j < 20 then v' j else v j) (fun j => if j < 20 then x' j else x j) (fun j => if j = 8 then y' 8 else y j) := by
  refine hMo_ren (h := hMo N' (rhoP ρ n) (adP ad n) (hMo (n + 14) ρ ad (KQ K n 80) v x y).2 v' x' y') (fun a i h => ?_)
  have hl := E.2.2 a i h
  have hm := (E.2.1 a i h).2
  by_cases c : i < 20
  · have h1 : rhoP ρ n a = some i := by
      unfold rhoP
      rw [if_neg (by omega), h]
      show (if i < 20 then some i else none) = some i
      rw [if_pos c]
    rw [show (hMo N' (rhoP ρ n) (adP ad n) (hMo (n + 14) ρ ad (KQ K n 80) v x y).2 v' x' y').2 a = some (cM (adP ad n) v' x' y' i) from nh_at h1]
    congr 1
    exact cM_lo (ad := ad) (ad' := adP ad n) hm c (fun j hj => if_pos hj) (fun j hj => (if_pos hj).symm) (fun j hj => (if_pos hj).symm) (if_pos rfl).symm
  · have h1 : rhoP ρ n a = none := by
      unfold rhoP
      rw [if_neg (by omega), h]
      show (if i < 20 then some i else none) = none
      rw [if_neg c]
    rw [show (hMo N' (rhoP ρ n) (adP ad n) (hMo (n + 14) ρ ad (KQ K n 80) v x y).2 v' x' y').2 a = (hMo (n + 14) ρ ad (KQ K n 80) v x y).2 a from nh_out h1, show (hMo (n + 14) ρ ad (KQ K n 80) v x y).2 a = some (cM ad v x y i) from nh_at h]
    congr 1
    unfold cM
    have c0 : ¬ i = 0 := by omega
    rw [if_neg c0, if_neg c0]
    by_cases c20 : i = 20
    · rw [if_pos c20, if_pos c20]
      rfl
    · rw [if_neg c20, if_neg c20]
      by_cases c8 : i = 8 ∨ i = 23
      · have : i = 23 := by omega
        subst this
        rfl
      · rw [if_neg c8, if_neg c8]
        have e9 : (if i < 20 then x' i else x i) = x i := if_neg c
        simp only [e9]
/-- the field of the plan set -/
theorem m_put4 {r : Nat} {Q : Unit → sd_H → Nat × Nat → Prop} (E : mOk n ρ ad) : wp (sd_put 4 4 (.object "SofaDigModel$Plan") (ad 0) (.ref r)) (hMo n ρ ad K v x y) b Q = Q () (hMo n ρ (updN ad 4 r) K v x y) b := by
  have e0 := E.1 0 (by decide)
  unfold hMo
  rw [wp_put (fs := mF ad v) (nh_at e0) (by show 4 < 18; decide) rfl rfl, nh_up e0 E.one]
  congr 2
  funext j
  unfold updE
  by_cases hj : j = 0
  · rw [if_pos hj]
    subst hj
    rfl
  · rw [if_neg hj]
    unfold cM
    rw [if_neg hj, if_neg hj]
    rfl
theorem mOk_4 {r : Nat} (E : mOk n ρ ad) : mOk n ρ (updN ad 4 r) := by
  have ne : ∀ i, i ∈ mN → i ≠ 4 := by decide
  refine ⟨fun i hi => ?_, fun a i h => ?_, E.2.2⟩
  · rw [updN_ne (ne i hi)]
    exact E.1 i hi
  · have := E.2.1 a i h
    rw [updN_ne (ne i this.2)]
    exact this
/-! the row filled -/
def t0S (ns st : Nat) : TT := (fun _ => 0, fun s => if s < ns then st else 0, fun c => if c < 10 * ns ∧ c % 10 < st then c else 0, fun _ => 0, fun _ => 0)
/-- filled up to seat s, and there up to stratum k -/
def t0P (s k st : Nat) (full : Bool) : TT := (fun _ => 0, fun j => if j < s ∨ (full = true ∧ j = s) then st else 0, fun c => if (c < 10 * s ∧ c % 10 < st) ∨ (10 * s ≤ c ∧ c < 10 * s + k) then c else 0, fun _ => 0, fun _ => 0)
theorem m_fill {ns st : Nat} {Q : Unit → sd_H → Nat × Nat → Prop} (E : mOk n ρ ad) (hp : ad 4 = ad 20) (h20 : v 20 = n3 ns) (h21 : v 21 = n3 st) (hn : ns ≤ 8) (hs : st ≤ 10) (hw : ∀ j, 197 ≤ j → x 15 j = 0) (kk : Q () (hMo n ρ ad K v (sx x (enc (t0S ns st))) y) b) : wp (fX5_fill G (ad 0)) (hMo n ρ ad K v x y) b Q := by
  unfold fX5_fill
  -- the filling
  have inner : ∀ s, s < ns → ∀ (K0 : Nat × Int32 → sd_M Unit), wp (K0 (ad 0, n3 (s + 1))) (hMo n ρ ad K v (sx x (enc (t0P (s + 1) 0 st false))) y) b Q → wp (sd_loop (fun k s => fX5_fill_b52 G K0 k s.1 s.2.1 s.2.2) sd_FU (ad 0, n3 s, 0)) (hMo n ρ ad K v (sx x (enc (t0P s 0 st true))) y) b Q := by
    intro s hsn K0 nx
    refine wp_for (F := fun k s => fX5_fill_b52 G K0 k s.1 s.2.1 s.2.2) st (fun k (_ : Unit) => (ad 0, n3 s, n3 k)) (fun k _ h' b' => h' = hMo n ρ ad K v (sx x (enc (t0P s k st true))) y ∧ b' = b) ?_ ?_ sd_FU 0 () _ b (Nat.zero_le _) (by unfold sd_FU; omega) ⟨rfl, rfl⟩
    · rintro K1 a h' b' ⟨rfl, rfl⟩
      show wp (fX5_fill_b52 G K0 K1 (ad 0) (n3 s) (n3 st)) _ _ Q
      unfold fX5_fill_b52
      rw [wp_bnd, hMo_getR4 E rfl, hp, wp_bnd, hMo_getI5 E rfl, h21, wp_ite, if_pos (by rw [n3_le (by omega) (by omega)]; exact Nat.le_refl _), wp_bnd, wp_ret, n3_suc]
      have e1 : t0P s st st true = t0P (s + 1) 0 st false := by
        unfold t0P
        refine Prod.ext rfl (Prod.ext (funext fun j => ?_) (Prod.ext (funext fun c => ?_) rfl))
        · show (if j < s ∨ (true = true ∧ j = s) then st else 0) = (if j < s + 1 ∨ (false = true ∧ j = s + 1) then st else 0)
          by_cases c : j < s + 1
          · rw [if_pos (show j < s ∨ (true = true ∧ j = s) from (Nat.lt_or_eq_of_le (Nat.le_of_lt_succ c)).elim Or.inl (fun h => Or.inr ⟨rfl, h⟩)), if_pos (Or.inl c)]
          · rw [if_neg (show ¬ (j < s ∨ (true = true ∧ j = s)) by rintro (h | h); exact c (Nat.lt_succ_of_lt h); exact c (Nat.lt_succ_of_le (Nat.le_of_eq h.2))), if_neg (by rintro (h | h); exact c h; cases h.1)]
        · show (if (c < 10 * s ∧ c % 10 < st) ∨ (10 * s ≤ c ∧ c < 10 * s + st) then c else 0) = (if (c < 10 * (s + 1) ∧ c % 10 < st) ∨ (10 * (s + 1) ≤ c ∧ c < 10 * (s + 1) + 0) then c else 0)
          by_cases c1 : (c < 10 * s ∧ c % 10 < st) ∨ (10 * s ≤ c ∧ c < 10 * s + st)
          · rw [if_pos c1, if_pos (by omega)]
          · rw [if_neg c1, if_neg (by omega)]
      rw [e1]
      exact nx
    · rintro K1 k a h' b' hk ⟨rfl, rfl⟩ nx2
      have nx2 := nx2 () _ _ ⟨rfl, rfl⟩
      show wp (fX5_fill_b52 G K0 K1 (ad 0) (n3 s) (n3 k)) _ _ Q
      unfold fX5_fill_b52
      rw [wp_bnd, hMo_getR4 E rfl, hp, wp_bnd, hMo_getI5 E rfl, h21, wp_ite, if_neg (by rw [n3_le (by omega) (by omega)]; omega), wp_bnd, hMo_getR4 E rfl, wp_bnd, show (10 : Int32) * n3 s = n3 (10 * s) from n3_mul 10 s, show (13 : Int32) + n3 (10 * s) = n3 (13 + 10 * s) from n3_add 13 _, n3_add, n3_add]
      have st15 : ∀ (b : Nat × Nat) (Q : Unit → sd_H → Nat × Nat → Prop), wp (sd_astI 0 (ad 15) (n3 (13 + 10 * s + k)) (n3 (10 * s + k))) (hMo n ρ ad K v (sx x (enc (t0P s k st true))) y) b Q = Q () (hMo n ρ ad K v (up2 (sx x (enc (t0P s k st true))) 15 (13 + 10 * s + k) (n3 (10 * s + k))) y) b := fun b Q => hMo_ast (i := 15) E (by decide) (by decide) (by decide) (by decide) (by decide) rfl (show 13 + 10 * s + k < 197 by omega)
      rw [st15, up2_sx, enc_ust (by omega), wp_bnd, wp_ret, n3_suc]
      have e1 : ((t0P s k st true).1, (t0P s k st true).2.1, updN (t0P s k st true).2.2.1 (10 * s + k) (10 * s + k), (t0P s k st true).2.2.2) = t0P s (k + 1) st true := by
        unfold t0P
        refine Prod.ext rfl (Prod.ext rfl (Prod.ext (funext fun c => ?_) rfl))
        show updN (fun c => if (c < 10 * s ∧ c % 10 < st) ∨ (10 * s ≤ c ∧ c < 10 * s + k) then c else 0) (10 * s + k) (10 * s + k) c = (if (c < 10 * s ∧ c % 10 < st) ∨ (10 * s ≤ c ∧ c < 10 * s + (k + 1)) then c else 0)
        by_cases c1 : c = 10 * s + k
        · rw [c1, updN_same, if_pos (by omega)]
        · rw [updN_ne c1]
          by_cases c2 : (c < 10 * s ∧ c % 10 < st) ∨ (10 * s ≤ c ∧ c < 10 * s + k)
          · rw [if_pos c2, if_pos (by omega)]
          · rw [if_neg c2, if_neg (by omega)]
      rw [e1]
      exact nx2
  have outer : wp (sd_loop (fun k s => fX5_fill_b24 G k s.1 s.2) sd_FU (ad 0, 0)) (hMo n ρ ad K v (sx x (enc (t0P 0 0 st false))) y) b Q := by
    refine wp_for (F := fun k s => fX5_fill_b24 G k s.1 s.2) ns (fun k (_ : Unit) => (ad 0, n3 k)) (fun s _ h' b' => h' = hMo n ρ ad K v (sx x (enc (t0P s 0 st false))) y ∧ b' = b) ?_ ?_ sd_FU 0 () _ b (Nat.zero_le _) (by unfold sd_FU; omega) ⟨rfl, rfl⟩
    · rintro K1 a h' b' ⟨rfl, rfl⟩
      show wp (fX5_fill_b24 G K1 (ad 0) (n3 ns)) _ _ Q
      unfold fX5_fill_b24
      rw [wp_bnd, hMo_getR4 E rfl, hp, wp_bnd, hMo_getI5 E rfl, h20, wp_ite, if_pos (by rw [n3_le (by omega) (by omega)]; exact Nat.le_refl _), wp_ret]
      have e1 : t0P ns 0 st false = t0S ns st := by
        unfold t0P t0S
        refine Prod.ext rfl (Prod.ext (funext fun j => ?_) (Prod.ext (funext fun c => ?_) rfl))
        · show (if j < ns ∨ (false = true ∧ j = ns) then st else 0) = (if j < ns then st else 0)
          by_cases c : j < ns
          · rw [if_pos (Or.inl c), if_pos c]
          · rw [if_neg c, if_neg (by rintro (h | h); exact c h; cases h.1)]
        · show (if (c < 10 * ns ∧ c % 10 < st) ∨ (10 * ns ≤ c ∧ c < 10 * ns + 0) then c else 0) = (if c < 10 * ns ∧ c % 10 < st then c else 0)
          by_cases c1 : c < 10 * ns ∧ c % 10 < st
          · rw [if_pos (Or.inl c1), if_pos c1]
          · rw [if_neg c1, if_neg (by omega)]
      rw [e1]
      exact kk
    · rintro K1 s a h' b' hsn ⟨rfl, rfl⟩ nx2
      have nx2 := nx2 () _ _ ⟨rfl, rfl⟩
      show wp (fX5_fill_b24 G K1 (ad 0) (n3 s)) _ _ Q
      unfold fX5_fill_b24
      rw [wp_bnd, hMo_getR4 E rfl, hp, wp_bnd, hMo_getI5 E rfl, h20, wp_ite, if_neg (by rw [n3_le (by omega) (by omega)]; omega), wp_bnd, hMo_getR4 E rfl, wp_bnd, hMo_getR4 E rfl, hp, wp_bnd, hMo_getI5 E rfl, h21, wp_bnd, show (5 : Int32) + n3 s = n3 (5 + s) from n3_add 5 s]
      have st15 : ∀ (b : Nat × Nat) (Q : Unit → sd_H → Nat × Nat → Prop), wp (sd_astI 0 (ad 15) (n3 (5 + s)) (n3 st)) (hMo n ρ ad K v (sx x (enc (t0P s 0 st false))) y) b Q = Q () (hMo n ρ ad K v (up2 (sx x (enc (t0P s 0 st false))) 15 (5 + s) (n3 st)) y) b := fun b Q => hMo_ast (i := 15) E (by decide) (by decide) (by decide) (by decide) (by decide) rfl (show 5 + s < 197 by omega)
      rw [st15, up2_sx, enc_utl (by omega)]
      have e1 : ((t0P s 0 st false).1, updN (t0P s 0 st false).2.1 s st, (t0P s 0 st false).2.2) = t0P s 0 st true := by
        unfold t0P
        refine Prod.ext rfl (Prod.ext (funext fun j => ?_) rfl)
        show updN (fun j => if j < s ∨ (false = true ∧ j = s) then st else 0) s st j = (if j < s ∨ (true = true ∧ j = s) then st else 0)
        by_cases c1 : j = s
        · rw [c1, updN_same, if_pos (Or.inr ⟨rfl, rfl⟩)]
        · rw [updN_ne c1]
          by_cases c2 : j < s
          · rw [if_pos (Or.inl c2), if_pos (Or.inl c2)]
          · rw [if_neg (by rintro (h | h); exact c2 h; cases h.1), if_neg (by rintro (h | h); exact c2 h; exact c1 h.2)]
      rw [e1]
      exact inner s hsn K1 nx2
  -- all zero
  refine wp_for (F := fun k s => fX5_fill_b2 G k s.1 s.2) 197 (fun k (_ : Unit) => (ad 0, n3 k)) (fun i _ h' b' => h' = hMo n ρ ad K v (sx x (fun j => if j < i then 0 else x 15 j)) y ∧ b' = b) ?_ ?_ sd_FU 0 () _ b (Nat.zero_le _) (by unfold sd_FU; omega) ⟨?_, rfl⟩
  · rintro K1 a h' b' ⟨rfl, rfl⟩
    show wp (fX5_fill_b2 G K1 (ad 0) (n3 197)) _ _ Q
    unfold fX5_fill_b2
    rw [wp_ite, if_pos (by decide)]
    have e1 : (fun j => if j < 197 then (0 : Int32) else x 15 j) = enc (t0P 0 0 st false) := by
      funext j
      have z1 : (if j < 197 then (0 : Int32) else x 15 j) = 0 := by
        by_cases c : j < 197
        · rw [if_pos c]
        · rw [if_neg c, hw j (by omega)]
      show (if j < 197 then (0 : Int32) else x 15 j) = _
      rw [z1]
      unfold enc t0P
      simp only
      split
      · rfl
      · split
        · rw [if_neg (by rintro (h | h); omega; cases h.1)]
          rfl
        · split
          · rw [if_neg (by omega)]
            rfl
          · split
            · rfl
            · rfl
    rw [e1]
    exact outer
  · rintro K1 i a h' b' hi ⟨rfl, rfl⟩ nx2
    have nx2 := nx2 () _ _ ⟨rfl, rfl⟩
    show wp (fX5_fill_b2 G K1 (ad 0) (n3 i)) _ _ Q
    unfold fX5_fill_b2
    have st15 : ∀ (b : Nat × Nat) (Q : Unit → sd_H → Nat × Nat → Prop), wp (sd_astI 0 (ad 15) (n3 i) 0) (hMo n ρ ad K v (sx x (fun j => if j < i then 0 else x 15 j)) y) b Q = Q () (hMo n ρ ad K v (up2 (sx x (fun j => if j < i then 0 else x 15 j)) 15 i 0) y) b := fun b Q => hMo_ast (i := 15) E (by decide) (by decide) (by decide) (by decide) (by decide) rfl (show i < 197 by omega)
    rw [wp_ite, if_neg (by rw [show (197 : Int32) = n3 197 from rfl, n3_le (by omega) (by omega)]; omega), wp_bnd, hMo_getR4 E rfl, wp_bnd, st15, up2_sx, wp_bnd, wp_ret, n3_suc]
    have e1 : upd (fun j => if j < i then 0 else x 15 j) i 0 = fun j => if j < i + 1 then 0 else x 15 j := by
      funext j
      by_cases c : j = i
      · rw [c, upd_same, if_pos (by omega)]
      · rw [upd_ne c]
        by_cases c2 : j < i
        · rw [if_pos c2, if_pos (by omega)]
        · rw [if_neg c2, if_neg (by omega)]
    rw [e1]
    exact nx2
  · show hMo n ρ ad K v x y = hMo n ρ ad K v (sx x (fun j => if j < 0 then 0 else x 15 j)) y
    have : (fun j => if j < 0 then 0 else x 15 j) = x 15 := funext fun j => if_neg (Nat.not_lt_zero j)
    rw [this, sx_self]
end REN
