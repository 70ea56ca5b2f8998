/-! THE PLAIN LAW: the model's cells. Printed by gen/mk_B02.py. ad: addresses by name (0 the model, 20 the plan, k and 20 + k their arrays; ad 4 what the field plan holds), v: int fields, x: int arrays, y: long arrays -/
def mN : List Nat := [0, 1, 5, 6, 7, 8, 9, 15, 16, 17, 20, 23, 24, 25, 27, 28, 29, 30, 31, 33, 34, 35, 36, 37]
def mF (ad : Nat → Nat) (v : Nat → Int32) : List Value := [.int (v 0), .ref (ad 1), .int (v 2), .int (v 3), .ref (ad 4), .ref (ad 5), .ref (ad 6), .ref (ad 7), .ref (ad 8), .ref (ad 9), .int (v 10), .int (v 11), .int (v 12), .int (v 13), .int (v 14), .ref (ad 15), .ref (ad 16), .ref (ad 17)]
def pF (ad : Nat → Nat) (v : Nat → Int32) : List Value := [.int (v 20), .int (v 21), .int (v 22), .ref (ad 23), .ref (ad 24), .ref (ad 25), .int (v 26), .ref (ad 27), .ref (ad 28), .ref (ad 29), .ref (ad 30), .ref (ad 31), .int (v 32), .ref (ad 33), .ref (ad 34), .ref (ad 35), .ref (ad 36), .ref (ad 37), .int (v 38)]
def mln (i : Nat) : Nat := match i with
  | 1 => 2000
  | 5 => 401
  | 6 => 401
  | 7 => 401
  | 8 => 401
  | 9 => 401
  | 15 => 197
  | 16 => 197
  | 17 => 800
  | 23 => 6
  | 24 => 6
  | 25 => 6
  | 27 => 24
  | 28 => 24
  | 29 => 24
  | 30 => 80
  | 31 => 80
  | 33 => 16
  | 34 => 32
  | 35 => 32
  | 36 => 800
  | 37 => 800
  | _ => 0
def mty (i : Nat) : Nat := if i = 27 ∨ i = 31 then 3 else 0
def cM (ad : Nat → Nat) (v : Nat → Int32) (x : Nat → Nat → Int32) (y : Nat → Nat → Int64) : Nat → sd_E := fun i => if i = 0 then .inr (4, mF ad v) else if i = 20 then .inr (5, pF ad v) else if i = 8 ∨ i = 23 then .inl (1, mln i, .inr (.inl (y i))) else .inl (mty i, mln i, .inl (x i))
def mOk (n : Nat) (ρ : Nat → Option Nat) (ad : Nat → Nat) : Prop := (∀ i, i ∈ mN → ρ (ad i) = some i) ∧ (∀ a i, ρ a = some i → a = ad i ∧ i ∈ mN) ∧ ∀ a i, ρ a = some i → a < n
def hMo (n : Nat) (ρ : Nat → Option Nat) (ad : Nat → Nat) (K : Nat → Option sd_E) (v : Nat → Int32) (x : Nat → Nat → Int32) (y : Nat → Nat → Int64) : sd_H := nh n ρ (cM ad v x y) K
def up2 (x : Nat → Nat → Int32) (i a : Nat) (z : Int32) : Nat → Nat → Int32 := fun j => if j = i then upd (x i) a z else x j
def up2L (y : Nat → Nat → Int64) (i a : Nat) (z : Int64) : Nat → Nat → Int64 := fun j => if j = i then vp_updL (y i) a z else y j
section MB
variable {n : Nat} {ρ : Nat → Option Nat} {ad : Nat → Nat} {K : Nat → Option sd_E} {v : Nat → Int32} {x : Nat → Nat → Int32} {y : Nat → Nat → Int64} {G : sd_G}
theorem mOk.one (E : mOk n ρ ad) {i : Nat} : ∀ q, ρ q = some i → q = ad i := fun q hq => (E.2.1 q i hq).1
theorem cM_up0 {k : Nat} {z : Value} {v' : Nat → Int32} (h1 : (mF ad v).set k z = mF ad v') (h2 : pF ad v = pF ad v') : updE (cM ad v x y) 0 (.inr (4, (mF ad v).set k z)) = cM ad v' x y := by
  funext j
  unfold updE cM
  by_cases hj : j = 0
  · rw [if_pos hj, if_pos hj, h1]
  · rw [if_neg hj, if_neg hj, if_neg hj, h2]
theorem cM_up20 {k : Nat} {z : Value} {v' : Nat → Int32} (h1 : (pF ad v).set k z = pF ad v') (h2 : mF ad v = mF ad v') : updE (cM ad v x y) 20 (.inr (5, (pF ad v).set k z)) = cM ad v' x y := by
  funext j
  unfold updE cM
  by_cases hj : j = 20
  · subst hj
    rw [if_pos rfl, if_neg (by decide), if_pos rfl, h1]
  · rw [if_neg hj, if_neg hj, if_neg hj, h2]
theorem cM_upA {i a : Nat} {z : Int32} (h1 : i ≠ 0) (h2 : i ≠ 20) (h3 : ¬ (i = 8 ∨ i = 23)) : updE (cM ad v x y) i (.inl (mty i, mln i, .inl (upd (x i) a z))) = cM ad v (up2 x i a z) y := by
  funext j
  unfold updE
  by_cases hj : j = i
  · subst hj
    rw [if_pos rfl]
    unfold cM
    rw [if_neg h1, if_neg h2, if_neg h3, up2, if_pos rfl]
  · rw [if_neg hj]
    unfold cM
    rw [show up2 x i a z j = x j from if_neg hj]
theorem cM_upL {i a : Nat} {z : Int64} (h1 : i ≠ 0) (h2 : i ≠ 20) (h3 : i = 8 ∨ i = 23) : updE (cM ad v x y) i (.inl (1, mln i, .inr (.inl (vp_updL (y i) a z)))) = cM ad v x (up2L y i a z) := by
  funext j
  unfold updE
  by_cases hj : j = i
  · subst hj
    rw [if_pos rfl]
    unfold cM
    rw [if_neg h1, if_neg h2, if_pos h3, up2L, if_pos rfl]
  · rw [if_neg hj]
    unfold cM
    rw [show up2L y i a z j = y j from if_neg hj]
theorem hMo_getI4 {k : Nat} {b : Nat × Nat} {z : Int32} {Q : Int32 → sd_H → Nat × Nat → Prop} (E : mOk n ρ ad) (hk : (mF ad v)[k]? = some (.int z)) : wp (sd_getI G 4 k (ad 0)) (hMo n ρ ad K v x y) b Q = Q z (hMo n ρ ad K v x y) b := wp_getI (nh_look (E.1 0 (by decide))) hk
theorem hMo_getR4 {k q : Nat} {b : Nat × Nat} {Q : Nat → sd_H → Nat × Nat → Prop} (E : mOk n ρ ad) (hk : (mF ad v)[k]? = some (.ref q)) : wp (sd_getR G 4 k (ad 0)) (hMo n ρ ad K v x y) b Q = Q q (hMo n ρ ad K v x y) b := wp_getR (nh_look (E.1 0 (by decide))) hk
theorem hMo_getI5 {k : Nat} {b : Nat × Nat} {z : Int32} {Q : Int32 → sd_H → Nat × Nat → Prop} (E : mOk n ρ ad) (hk : (pF ad v)[k]? = some (.int z)) : wp (sd_getI G 5 k (ad 20)) (hMo n ρ ad K v x y) b Q = Q z (hMo n ρ ad K v x y) b := wp_getI (nh_look (E.1 20 (by decide))) hk
theorem hMo_getR5 {k q : Nat} {b : Nat × Nat} {Q : Nat → sd_H → Nat × Nat → Prop} (E : mOk n ρ ad) (hk : (pF ad v)[k]? = some (.ref q)) : wp (sd_getR G 5 k (ad 20)) (hMo n ρ ad K v x y) b Q = Q q (hMo n ρ ad K v x y) b := wp_getR (nh_look (E.1 20 (by decide))) hk
theorem hMo_isC4 {b : Nat × Nat} {Q : Unit → sd_H → Nat × Nat → Prop} (E : mOk n ρ ad) : wp (sd_isC G 4 (ad 0)) (hMo n ρ ad K v x y) b Q = Q () (hMo n ρ ad K v x y) b := wp_isC (fs := mF ad v) (nh_look (E.1 0 (by decide)))
theorem hMo_put4 {k : Nat} {z : Int32} {b : Nat × Nat} {ty : FieldType} {Q : Unit → sd_H → Nat × Nat → Prop} (E : mOk n ρ ad) (hk : k < (mF ad v).length) (h1 : (mF ad v).set k (.int z) = mF ad (upd v k z)) (h2 : pF ad v = pF ad (upd v k z)) (h3 : narrow ty (.int z) = .int z) (h4 : fits ty (.int z) = true) : wp (sd_put 4 k ty (ad 0) (.int z)) (hMo n ρ ad K v x y) b Q = Q () (hMo n ρ ad K (upd v k z) x y) b := by
  unfold hMo
  rw [wp_put (fs := mF ad v) (nh_at (E.1 0 (by decide))) hk h3 h4, nh_up (E.1 0 (by decide)) E.one, cM_up0 h1 h2]
theorem hMo_put5 {k : Nat} {z : Int32} {b : Nat × Nat} {ty : FieldType} {Q : Unit → sd_H → Nat × Nat → Prop} (E : mOk n ρ ad) (hk : k < (pF ad v).length) (h1 : (pF ad v).set k (.int z) = pF ad (upd v (20 + k) z)) (h2 : mF ad v = mF ad (upd v (20 + k) z)) (h3 : narrow ty (.int z) = .int z) (h4 : fits ty (.int z) = true) : wp (sd_put 5 k ty (ad 20) (.int z)) (hMo n ρ ad K v x y) b Q = Q () (hMo n ρ ad K (upd v (20 + k) z) x y) b := by
  unfold hMo
  rw [wp_put (fs := pF ad v) (nh_at (E.1 20 (by decide))) hk h3 h4, nh_up (E.1 20 (by decide)) E.one, cM_up20 h1 h2]
theorem hMo_ald {i a : Nat} {b : Nat × Nat} {Q : Int32 → sd_H → Nat × Nat → Prop} (E : mOk n ρ ad) (hi : i ∈ mN) (h1 : i ≠ 0) (h2 : i ≠ 20) (h3 : ¬ (i = 8 ∨ i = 23)) (h4 : mln i ≤ 2000) (ha : a < mln i) : wp (sd_aldI G (mty i) (ad i) (n3 a)) (hMo n ρ ad K v x y) b Q = Q (x i a) (hMo n ρ ad K v x y) b := by
  unfold hMo
  rw [wp_aldI (t := mty i) (n := mln i) (f := x i) ((nh_look (E.1 i hi)).trans (by unfold cM; rw [if_neg h1, if_neg h2, if_neg h3])) (n3_ix ha (by omega)), n3_nn (by omega)]
theorem hMo_ast {i a : Nat} {z : Int32} {b : Nat × Nat} {Q : Unit → sd_H → Nat × Nat → Prop} (E : mOk n ρ ad) (hi : i ∈ mN) (h1 : i ≠ 0) (h2 : i ≠ 20) (h3 : ¬ (i = 8 ∨ i = 23)) (h4 : mln i ≤ 2000) (hz : sd_nar (mty i) z = z) (ha : a < mln i) : wp (sd_astI (mty i) (ad i) (n3 a) z) (hMo n ρ ad K v x y) b Q = Q () (hMo n ρ ad K v (up2 x i a z) y) b := by
  unfold hMo
  rw [wp_astI (t := mty i) (n := mln i) (f := x i) ((nh_at (E.1 i hi)).trans (by unfold cM; rw [if_neg h1, if_neg h2, if_neg h3])) (n3_ix ha (by omega)), n3_nn (by omega), hz, nh_up (E.1 i hi) E.one, cM_upA h1 h2 h3]
theorem hMo_aldL {i a : Nat} {b : Nat × Nat} {Q : Int64 → sd_H → Nat × Nat → Prop} (E : mOk n ρ ad) (hi : i ∈ mN) (h1 : i ≠ 0) (h2 : i ≠ 20) (h3 : i = 8 ∨ i = 23) (h4 : mln i ≤ 2000) (ha : a < mln i) : wp (sd_aldL G (ad i) (n3 a)) (hMo n ρ ad K v x y) b Q = Q (y i a) (hMo n ρ ad K v x y) b := by
  unfold hMo
  rw [wp_aldL (n := mln i) (f := y i) ((nh_look (E.1 i hi)).trans (by unfold cM; rw [if_neg h1, if_neg h2, if_pos h3])) (n3_ix ha (by omega)), n3_nn (by omega)]
theorem hMo_astL {i a : Nat} {z : Int64} {b : Nat × Nat} {Q : Unit → sd_H → Nat × Nat → Prop} (E : mOk n ρ ad) (hi : i ∈ mN) (h1 : i ≠ 0) (h2 : i ≠ 20) (h3 : i = 8 ∨ i = 23) (h4 : mln i ≤ 2000) (ha : a < mln i) : wp (sd_astL (ad i) (n3 a) z) (hMo n ρ ad K v x y) b Q = Q () (hMo n ρ ad K v x (up2L y i a z)) b := by
  unfold hMo
  rw [wp_astL (n := mln i) (f := y i) ((nh_at (E.1 i hi)).trans (by unfold cM; rw [if_neg h1, if_neg h2, if_pos h3])) (n3_ix ha (by omega)), n3_nn (by omega), nh_up (E.1 i hi) E.one, cM_upL h1 h2 h3]

theorem mFl (E : mOk n ρ ad) : (∀ (v : Nat → Int32) (x : Nat → Nat → Int32) (y : Nat → Nat → Int64) (b : Nat × Nat) (Q : Int32 → sd_H → Nat × Nat → Prop), wp (sd_getI G 4 0 (ad 0)) (hMo n ρ ad K v x y) b Q = Q (v 0) (hMo n ρ ad K v x y) b) ∧
    (∀ (v : Nat → Int32) (x : Nat → Nat → Int32) (y : Nat → Nat → Int64) (b : Nat × Nat) (Q : Nat → sd_H → Nat × Nat → Prop), wp (sd_getR G 4 1 (ad 0)) (hMo n ρ ad K v x y) b Q = Q (ad 1) (hMo n ρ ad K v x y) b) ∧
    (∀ (v : Nat → Int32) (x : Nat → Nat → Int32) (y : Nat → Nat → Int64) (b : Nat × Nat) (Q : Int32 → sd_H → Nat × Nat → Prop), wp (sd_getI G 4 2 (ad 0)) (hMo n ρ ad K v x y) b Q = Q (v 2) (hMo n ρ ad K v x y) b) ∧
    (∀ (v : Nat → Int32) (x : Nat → Nat → Int32) (y : Nat → Nat → Int64) (b : Nat × Nat) (Q : Int32 → sd_H → Nat × Nat → Prop), wp (sd_getI G 4 3 (ad 0)) (hMo n ρ ad K v x y) b Q = Q (v 3) (hMo n ρ ad K v x y) b) ∧
    (∀ (v : Nat → Int32) (x : Nat → Nat → Int32) (y : Nat → Nat → Int64) (b : Nat × Nat) (Q : Nat → sd_H → Nat × Nat → Prop), wp (sd_getR G 4 4 (ad 0)) (hMo n ρ ad K v x y) b Q = Q (ad 4) (hMo n ρ ad K v x y) b) ∧
    (∀ (v : Nat → Int32) (x : Nat → Nat → Int32) (y : Nat → Nat → Int64) (b : Nat × Nat) (Q : Nat → sd_H → Nat × Nat → Prop), wp (sd_getR G 4 5 (ad 0)) (hMo n ρ ad K v x y) b Q = Q (ad 5) (hMo n ρ ad K v x y) b) ∧
    (∀ (v : Nat → Int32) (x : Nat → Nat → Int32) (y : Nat → Nat → Int64) (b : Nat × Nat) (Q : Nat → sd_H → Nat × Nat → Prop), wp (sd_getR G 4 6 (ad 0)) (hMo n ρ ad K v x y) b Q = Q (ad 6) (hMo n ρ ad K v x y) b) ∧
    (∀ (v : Nat → Int32) (x : Nat → Nat → Int32) (y : Nat → Nat → Int64) (b : Nat × Nat) (Q : Nat → sd_H → Nat × Nat → Prop), wp (sd_getR G 4 7 (ad 0)) (hMo n ρ ad K v x y) b Q = Q (ad 7) (hMo n ρ ad K v x y) b) ∧
    (∀ (v : Nat → Int32) (x : Nat → Nat → Int32) (y : Nat → Nat → Int64) (b : Nat × Nat) (Q : Nat → sd_H → Nat × Nat → Prop), wp (sd_getR G 4 8 (ad 0)) (hMo n ρ ad K v x y) b Q = Q (ad 8) (hMo n ρ ad K v x y) b) ∧
    (∀ (v : Nat → Int32) (x : Nat → Nat → Int32) (y : Nat → Nat → Int64) (b : Nat × Nat) (Q : Nat → sd_H → Nat × Nat → Prop), wp (sd_getR G 4 9 (ad 0)) (hMo n ρ ad K v x y) b Q = Q (ad 9) (hMo n ρ ad K v x y) b) ∧
    (∀ (v : Nat → Int32) (x : Nat → Nat → Int32) (y : Nat → Nat → Int64) (b : Nat × Nat) (Q : Int32 → sd_H → Nat × Nat → Prop), wp (sd_getI G 4 10 (ad 0)) (hMo n ρ ad K v x y) b Q = Q (v 10) (hMo n ρ ad K v x y) b) ∧
    (∀ (v : Nat → Int32) (x : Nat → Nat → Int32) (y : Nat → Nat → Int64) (b : Nat × Nat) (Q : Int32 → sd_H → Nat × Nat → Prop), wp (sd_getI G 4 11 (ad 0)) (hMo n ρ ad K v x y) b Q = Q (v 11) (hMo n ρ ad K v x y) b) ∧
    (∀ (v : Nat → Int32) (x : Nat → Nat → Int32) (y : Nat → Nat → Int64) (b : Nat × Nat) (Q : Int32 → sd_H → Nat × Nat → Prop), wp (sd_getI G 4 12 (ad 0)) (hMo n ρ ad K v x y) b Q = Q (v 12) (hMo n ρ ad K v x y) b) ∧
    (∀ (v : Nat → Int32) (x : Nat → Nat → Int32) (y : Nat → Nat → Int64) (b : Nat × Nat) (Q : Int32 → sd_H → Nat × Nat → Prop), wp (sd_getI G 4 13 (ad 0)) (hMo n ρ ad K v x y) b Q = Q (v 13) (hMo n ρ ad K v x y) b) ∧
    (∀ (v : Nat → Int32) (x : Nat → Nat → Int32) (y : Nat → Nat → Int64) (b : Nat × Nat) (Q : Int32 → sd_H → Nat × Nat → Prop), wp (sd_getI G 4 14 (ad 0)) (hMo n ρ ad K v x y) b Q = Q (v 14) (hMo n ρ ad K v x y) b) ∧
    (∀ (v : Nat → Int32) (x : Nat → Nat → Int32) (y : Nat → Nat → Int64) (b : Nat × Nat) (Q : Nat → sd_H → Nat × Nat → Prop), wp (sd_getR G 4 15 (ad 0)) (hMo n ρ ad K v x y) b Q = Q (ad 15) (hMo n ρ ad K v x y) b) ∧
    (∀ (v : Nat → Int32) (x : Nat → Nat → Int32) (y : Nat → Nat → Int64) (b : Nat × Nat) (Q : Nat → sd_H → Nat × Nat → Prop), wp (sd_getR G 4 16 (ad 0)) (hMo n ρ ad K v x y) b Q = Q (ad 16) (hMo n ρ ad K v x y) b) ∧
    (∀ (v : Nat → Int32) (x : Nat → Nat → Int32) (y : Nat → Nat → Int64) (b : Nat × Nat) (Q : Nat → sd_H → Nat × Nat → Prop), wp (sd_getR G 4 17 (ad 0)) (hMo n ρ ad K v x y) b Q = Q (ad 17) (hMo n ρ ad K v x y) b) ∧
    (∀ (v : Nat → Int32) (x : Nat → Nat → Int32) (y : Nat → Nat → Int64) (b : Nat × Nat) (Q : Int32 → sd_H → Nat × Nat → Prop), wp (sd_getI G 5 0 (ad 20)) (hMo n ρ ad K v x y) b Q = Q (v 20) (hMo n ρ ad K v x y) b) ∧
    (∀ (v : Nat → Int32) (x : Nat → Nat → Int32) (y : Nat → Nat → Int64) (b : Nat × Nat) (Q : Int32 → sd_H → Nat × Nat → Prop), wp (sd_getI G 5 1 (ad 20)) (hMo n ρ ad K v x y) b Q = Q (v 21) (hMo n ρ ad K v x y) b) ∧
    (∀ (v : Nat → Int32) (x : Nat → Nat → Int32) (y : Nat → Nat → Int64) (b : Nat × Nat) (Q : Int32 → sd_H → Nat × Nat → Prop), wp (sd_getI G 5 2 (ad 20)) (hMo n ρ ad K v x y) b Q = Q (v 22) (hMo n ρ ad K v x y) b) ∧
    (∀ (v : Nat → Int32) (x : Nat → Nat → Int32) (y : Nat → Nat → Int64) (b : Nat × Nat) (Q : Nat → sd_H → Nat × Nat → Prop), wp (sd_getR G 5 3 (ad 20)) (hMo n ρ ad K v x y) b Q = Q (ad 23) (hMo n ρ ad K v x y) b) ∧
    (∀ (v : Nat → Int32) (x : Nat → Nat → Int32) (y : Nat → Nat → Int64) (b : Nat × Nat) (Q : Nat → sd_H → Nat × Nat → Prop), wp (sd_getR G 5 4 (ad 20)) (hMo n ρ ad K v x y) b Q = Q (ad 24) (hMo n ρ ad K v x y) b) ∧
    (∀ (v : Nat → Int32) (x : Nat → Nat → Int32) (y : Nat → Nat → Int64) (b : Nat × Nat) (Q : Nat → sd_H → Nat × Nat → Prop), wp (sd_getR G 5 5 (ad 20)) (hMo n ρ ad K v x y) b Q = Q (ad 25) (hMo n ρ ad K v x y) b) ∧
    (∀ (v : Nat → Int32) (x : Nat → Nat → Int32) (y : Nat → Nat → Int64) (b : Nat × Nat) (Q : Int32 → sd_H → Nat × Nat → Prop), wp (sd_getI G 5 6 (ad 20)) (hMo n ρ ad K v x y) b Q = Q (v 26) (hMo n ρ ad K v x y) b) ∧
    (∀ (v : Nat → Int32) (x : Nat → Nat → Int32) (y : Nat → Nat → Int64) (b : Nat × Nat) (Q : Nat → sd_H → Nat × Nat → Prop), wp (sd_getR G 5 7 (ad 20)) (hMo n ρ ad K v x y) b Q = Q (ad 27) (hMo n ρ ad K v x y) b) ∧
    (∀ (v : Nat → Int32) (x : Nat → Nat → Int32) (y : Nat → Nat → Int64) (b : Nat × Nat) (Q : Nat → sd_H → Nat × Nat → Prop), wp (sd_getR G 5 8 (ad 20)) (hMo n ρ ad K v x y) b Q = Q (ad 28) (hMo n ρ ad K v x y) b) ∧
    (∀ (v : Nat → Int32) (x : Nat → Nat → Int32) (y : Nat → Nat → Int64) (b : Nat × Nat) (Q : Nat → sd_H → Nat × Nat → Prop), wp (sd_getR G 5 9 (ad 20)) (hMo n ρ ad K v x y) b Q = Q (ad 29) (hMo n ρ ad K v x y) b) ∧
    (∀ (v : Nat → Int32) (x : Nat → Nat → Int32) (y : Nat → Nat → Int64) (b : Nat × Nat) (Q : Nat → sd_H → Nat × Nat → Prop), wp (sd_getR G 5 10 (ad 20)) (hMo n ρ ad K v x y) b Q = Q (ad 30) (hMo n ρ ad K v x y) b) ∧
    (∀ (v : Nat → Int32) (x : Nat → Nat → Int32) (y : Nat → Nat → Int64) (b : Nat × Nat) (Q : Nat → sd_H → Nat × Nat → Prop), wp (sd_getR G 5 11 (ad 20)) (hMo n ρ ad K v x y) b Q = Q (ad 31) (hMo n ρ ad K v x y) b) ∧
    (∀ (v : Nat → Int32) (x : Nat → Nat → Int32) (y : Nat → Nat → Int64) (b : Nat × Nat) (Q : Int32 → sd_H → Nat × Nat → Prop), wp (sd_getI G 5 12 (ad 20)) (hMo n ρ ad K v x y) b Q = Q (v 32) (hMo n ρ ad K v x y) b) ∧
    (∀ (v : Nat → Int32) (x : Nat → Nat → Int32) (y : Nat → Nat → Int64) (b : Nat × Nat) (Q : Nat → sd_H → Nat × Nat → Prop), wp (sd_getR G 5 13 (ad 20)) (hMo n ρ ad K v x y) b Q = Q (ad 33) (hMo n ρ ad K v x y) b) ∧
    (∀ (v : Nat → Int32) (x : Nat → Nat → Int32) (y : Nat → Nat → Int64) (b : Nat × Nat) (Q : Nat → sd_H → Nat × Nat → Prop), wp (sd_getR G 5 14 (ad 20)) (hMo n ρ ad K v x y) b Q = Q (ad 34) (hMo n ρ ad K v x y) b) ∧
    (∀ (v : Nat → Int32) (x : Nat → Nat → Int32) (y : Nat → Nat → Int64) (b : Nat × Nat) (Q : Nat → sd_H → Nat × Nat → Prop), wp (sd_getR G 5 15 (ad 20)) (hMo n ρ ad K v x y) b Q = Q (ad 35) (hMo n ρ ad K v x y) b) ∧
    (∀ (v : Nat → Int32) (x : Nat → Nat → Int32) (y : Nat → Nat → Int64) (b : Nat × Nat) (Q : Nat → sd_H → Nat × Nat → Prop), wp (sd_getR G 5 16 (ad 20)) (hMo n ρ ad K v x y) b Q = Q (ad 36) (hMo n ρ ad K v x y) b) ∧
    (∀ (v : Nat → Int32) (x : Nat → Nat → Int32) (y : Nat → Nat → Int64) (b : Nat × Nat) (Q : Nat → sd_H → Nat × Nat → Prop), wp (sd_getR G 5 17 (ad 20)) (hMo n ρ ad K v x y) b Q = Q (ad 37) (hMo n ρ ad K v x y) b) ∧
    (∀ (v : Nat → Int32) (x : Nat → Nat → Int32) (y : Nat → Nat → Int64) (b : Nat × Nat) (Q : Int32 → sd_H → Nat × Nat → Prop), wp (sd_getI G 5 18 (ad 20)) (hMo n ρ ad K v x y) b Q = Q (v 38) (hMo n ρ ad K v x y) b) ∧
    (∀ (v : Nat → Int32) (x : Nat → Nat → Int32) (y : Nat → Nat → Int64) (b : Nat × Nat) (Q : Unit → sd_H → Nat × Nat → Prop), wp (sd_isC G 4 (ad 0)) (hMo n ρ ad K v x y) b Q = Q () (hMo n ρ ad K v x y) b) :=
  ⟨fun _ _ _ _ _ => hMo_getI4 E rfl,
  fun _ _ _ _ _ => hMo_getR4 E rfl,
  fun _ _ _ _ _ => hMo_getI4 E rfl,
  fun _ _ _ _ _ => hMo_getI4 E rfl,
  fun _ _ _ _ _ => hMo_getR4 E rfl,
  fun _ _ _ _ _ => hMo_getR4 E rfl,
  fun _ _ _ _ _ => hMo_getR4 E rfl,
  fun _ _ _ _ _ => hMo_getR4 E rfl,
  fun _ _ _ _ _ => hMo_getR4 E rfl,
  fun _ _ _ _ _ => hMo_getR4 E rfl,
  fun _ _ _ _ _ => hMo_getI4 E rfl,
  fun _ _ _ _ _ => hMo_getI4 E rfl,
  fun _ _ _ _ _ => hMo_getI4 E rfl,
  fun _ _ _ _ _ => hMo_getI4 E rfl,
  fun _ _ _ _ _ => hMo_getI4 E rfl,
  fun _ _ _ _ _ => hMo_getR4 E rfl,
  fun _ _ _ _ _ => hMo_getR4 E rfl,
  fun _ _ _ _ _ => hMo_getR4 E rfl,
  fun _ _ _ _ _ => hMo_getI5 E rfl,
  fun _ _ _ _ _ => hMo_getI5 E rfl,
  fun _ _ _ _ _ => hMo_getI5 E rfl,
  fun _ _ _ _ _ => hMo_getR5 E rfl,
  fun _ _ _ _ _ => hMo_getR5 E rfl,
  fun _ _ _ _ _ => hMo_getR5 E rfl,
  fun _ _ _ _ _ => hMo_getI5 E rfl,
  fun _ _ _ _ _ => hMo_getR5 E rfl,
  fun _ _ _ _ _ => hMo_getR5 E rfl,
  fun _ _ _ _ _ => hMo_getR5 E rfl,
  fun _ _ _ _ _ => hMo_getR5 E rfl,
  fun _ _ _ _ _ => hMo_getR5 E rfl,
  fun _ _ _ _ _ => hMo_getI5 E rfl,
  fun _ _ _ _ _ => hMo_getR5 E rfl,
  fun _ _ _ _ _ => hMo_getR5 E rfl,
  fun _ _ _ _ _ => hMo_getR5 E rfl,
  fun _ _ _ _ _ => hMo_getR5 E rfl,
  fun _ _ _ _ _ => hMo_getR5 E rfl,
  fun _ _ _ _ _ => hMo_getI5 E rfl,
  fun _ _ _ _ _ => hMo_isC4 E⟩
theorem mPu (E : mOk n ρ ad) : (∀ (z : Int32) (v : Nat → Int32) (x : Nat → Nat → Int32) (y : Nat → Nat → Int64) (b : Nat × Nat) (Q : Unit → sd_H → Nat × Nat → Prop), wp (sd_put 4 0 .int (ad 0) (.int z)) (hMo n ρ ad K v x y) b Q = Q () (hMo n ρ ad K (upd v 0 z) x y) b) ∧
    (∀ (z : Int32) (v : Nat → Int32) (x : Nat → Nat → Int32) (y : Nat → Nat → Int64) (b : Nat × Nat) (Q : Unit → sd_H → Nat × Nat → Prop), wp (sd_put 4 2 .int (ad 0) (.int z)) (hMo n ρ ad K v x y) b Q = Q () (hMo n ρ ad K (upd v 2 z) x y) b) ∧
    (∀ (z : Int32) (v : Nat → Int32) (x : Nat → Nat → Int32) (y : Nat → Nat → Int64) (b : Nat × Nat) (Q : Unit → sd_H → Nat × Nat → Prop), wp (sd_put 4 3 .int (ad 0) (.int z)) (hMo n ρ ad K v x y) b Q = Q () (hMo n ρ ad K (upd v 3 z) x y) b) ∧
    (∀ (z : Int32) (v : Nat → Int32) (x : Nat → Nat → Int32) (y : Nat → Nat → Int64) (b : Nat × Nat) (Q : Unit → sd_H → Nat × Nat → Prop), wp (sd_put 4 10 .int (ad 0) (.int z)) (hMo n ρ ad K v x y) b Q = Q () (hMo n ρ ad K (upd v 10 z) x y) b) ∧
    (∀ (z : Int32) (v : Nat → Int32) (x : Nat → Nat → Int32) (y : Nat → Nat → Int64) (b : Nat × Nat) (Q : Unit → sd_H → Nat × Nat → Prop), wp (sd_put 4 11 .int (ad 0) (.int z)) (hMo n ρ ad K v x y) b Q = Q () (hMo n ρ ad K (upd v 11 z) x y) b) ∧
    (∀ (z : Int32) (v : Nat → Int32) (x : Nat → Nat → Int32) (y : Nat → Nat → Int64) (b : Nat × Nat) (Q : Unit → sd_H → Nat × Nat → Prop), wp (sd_put 4 12 .int (ad 0) (.int z)) (hMo n ρ ad K v x y) b Q = Q () (hMo n ρ ad K (upd v 12 z) x y) b) ∧
    (∀ (z : Int32) (v : Nat → Int32) (x : Nat → Nat → Int32) (y : Nat → Nat → Int64) (b : Nat × Nat) (Q : Unit → sd_H → Nat × Nat → Prop), wp (sd_put 4 14 .int (ad 0) (.int z)) (hMo n ρ ad K v x y) b Q = Q () (hMo n ρ ad K (upd v 14 z) x y) b) ∧
    (∀ (v : Nat → Int32) (x : Nat → Nat → Int32) (y : Nat → Nat → Int64) (b : Nat × Nat) (Q : Unit → sd_H → Nat × Nat → Prop), wp (sd_put 4 13 .boolean (ad 0) (.int 0)) (hMo n ρ ad K v x y) b Q = Q () (hMo n ρ ad K (upd v 13 0) x y) b) ∧
    (∀ (v : Nat → Int32) (x : Nat → Nat → Int32) (y : Nat → Nat → Int64) (b : Nat × Nat) (Q : Unit → sd_H → Nat × Nat → Prop), wp (sd_put 4 13 .boolean (ad 0) (.int 1)) (hMo n ρ ad K v x y) b Q = Q () (hMo n ρ ad K (upd v 13 1) x y) b) ∧
    (∀ (z : Int32) (v : Nat → Int32) (x : Nat → Nat → Int32) (y : Nat → Nat → Int64) (b : Nat × Nat) (Q : Unit → sd_H → Nat × Nat → Prop), wp (sd_put 5 0 .int (ad 20) (.int z)) (hMo n ρ ad K v x y) b Q = Q () (hMo n ρ ad K (upd v 20 z) x y) b) ∧
    (∀ (z : Int32) (v : Nat → Int32) (x : Nat → Nat → Int32) (y : Nat → Nat → Int64) (b : Nat × Nat) (Q : Unit → sd_H → Nat × Nat → Prop), wp (sd_put 5 1 .int (ad 20) (.int z)) (hMo n ρ ad K v x y) b Q = Q () (hMo n ρ ad K (upd v 21 z) x y) b) ∧
    (∀ (z : Int32) (v : Nat → Int32) (x : Nat → Nat → Int32) (y : Nat → Nat → Int64) (b : Nat × Nat) (Q : Unit → sd_H → Nat × Nat → Prop), wp (sd_put 5 2 .int (ad 20) (.int z)) (hMo n ρ ad K v x y) b Q = Q () (hMo n ρ ad K (upd v 22 z) x y) b) ∧
    (∀ (z : Int32) (v : Nat → Int32) (x : Nat → Nat → Int32) (y : Nat → Nat → Int64) (b : Nat × Nat) (Q : Unit → sd_H → Nat × Nat → Prop), wp (sd_put 5 6 .int (ad 20) (.int z)) (hMo n ρ ad K v x y) b Q = Q () (hMo n ρ ad K (upd v 26 z) x y) b) ∧
    (∀ (z : Int32) (v : Nat → Int32) (x : Nat → Nat → Int32) (y : Nat → Nat → Int64) (b : Nat × Nat) (Q : Unit → sd_H → Nat × Nat → Prop), wp (sd_put 5 12 .int (ad 20) (.int z)) (hMo n ρ ad K v x y) b Q = Q () (hMo n ρ ad K (upd v 32 z) x y) b) ∧
    (∀ (z : Int32) (v : Nat → Int32) (x : Nat → Nat → Int32) (y : Nat → Nat → Int64) (b : Nat × Nat) (Q : Unit → sd_H → Nat × Nat → Prop), wp (sd_put 5 18 .int (ad 20) (.int z)) (hMo n ρ ad K v x y) b Q = Q () (hMo n ρ ad K (upd v 38 z) x y) b) :=
  ⟨fun _ _ _ _ _ _ => hMo_put4 E (show 0 < 18 by decide) rfl rfl rfl rfl,
  fun _ _ _ _ _ _ => hMo_put4 E (show 2 < 18 by decide) rfl rfl rfl rfl,
  fun _ _ _ _ _ _ => hMo_put4 E (show 3 < 18 by decide) rfl rfl rfl rfl,
  fun _ _ _ _ _ _ => hMo_put4 E (show 10 < 18 by decide) rfl rfl rfl rfl,
  fun _ _ _ _ _ _ => hMo_put4 E (show 11 < 18 by decide) rfl rfl rfl rfl,
  fun _ _ _ _ _ _ => hMo_put4 E (show 12 < 18 by decide) rfl rfl rfl rfl,
  fun _ _ _ _ _ _ => hMo_put4 E (show 14 < 18 by decide) rfl rfl rfl rfl,
  fun _ _ _ _ _ => hMo_put4 E (show 13 < 18 by decide) rfl rfl rfl rfl,
  fun _ _ _ _ _ => hMo_put4 E (show 13 < 18 by decide) rfl rfl rfl rfl,
  fun _ _ _ _ _ _ => hMo_put5 E (show 0 < 19 by decide) rfl rfl rfl rfl,
  fun _ _ _ _ _ _ => hMo_put5 E (show 1 < 19 by decide) rfl rfl rfl rfl,
  fun _ _ _ _ _ _ => hMo_put5 E (show 2 < 19 by decide) rfl rfl rfl rfl,
  fun _ _ _ _ _ _ => hMo_put5 E (show 6 < 19 by decide) rfl rfl rfl rfl,
  fun _ _ _ _ _ _ => hMo_put5 E (show 12 < 19 by decide) rfl rfl rfl rfl,
  fun _ _ _ _ _ _ => hMo_put5 E (show 18 < 19 by decide) rfl rfl rfl rfl⟩
theorem mAr (E : mOk n ρ ad) : (∀ (a : Nat) (v : Nat → Int32) (x : Nat → Nat → Int32) (y : Nat → Nat → Int64) (b : Nat × Nat) (Q : Int32 → sd_H → Nat × Nat → Prop), a < 2000 → wp (sd_aldI G 0 (ad 1) (n3 a)) (hMo n ρ ad K v x y) b Q = Q (x 1 a) (hMo n ρ ad K v x y) b) ∧
    (∀ (a : Nat) (v : Nat → Int32) (x : Nat → Nat → Int32) (y : Nat → Nat → Int64) (b : Nat × Nat) (Q : Int32 → sd_H → Nat × Nat → Prop), a < 401 → wp (sd_aldI G 0 (ad 5) (n3 a)) (hMo n ρ ad K v x y) b Q = Q (x 5 a) (hMo n ρ ad K v x y) b) ∧
    (∀ (a : Nat) (v : Nat → Int32) (x : Nat → Nat → Int32) (y : Nat → Nat → Int64) (b : Nat × Nat) (Q : Int32 → sd_H → Nat × Nat → Prop), a < 401 → wp (sd_aldI G 0 (ad 6) (n3 a)) (hMo n ρ ad K v x y) b Q = Q (x 6 a) (hMo n ρ ad K v x y) b) ∧
    (∀ (a : Nat) (v : Nat → Int32) (x : Nat → Nat → Int32) (y : Nat → Nat → Int64) (b : Nat × Nat) (Q : Int32 → sd_H → Nat × Nat → Prop), a < 401 → wp (sd_aldI G 0 (ad 7) (n3 a)) (hMo n ρ ad K v x y) b Q = Q (x 7 a) (hMo n ρ ad K v x y) b) ∧
    (∀ (a : Nat) (v : Nat → Int32) (x : Nat → Nat → Int32) (y : Nat → Nat → Int64) (b : Nat × Nat) (Q : Int32 → sd_H → Nat × Nat → Prop), a < 401 → wp (sd_aldI G 0 (ad 9) (n3 a)) (hMo n ρ ad K v x y) b Q = Q (x 9 a) (hMo n ρ ad K v x y) b) ∧
    (∀ (a : Nat) (v : Nat → Int32) (x : Nat → Nat → Int32) (y : Nat → Nat → Int64) (b : Nat × Nat) (Q : Int32 → sd_H → Nat × Nat → Prop), a < 197 → wp (sd_aldI G 0 (ad 15) (n3 a)) (hMo n ρ ad K v x y) b Q = Q (x 15 a) (hMo n ρ ad K v x y) b) ∧
    (∀ (a : Nat) (v : Nat → Int32) (x : Nat → Nat → Int32) (y : Nat → Nat → Int64) (b : Nat × Nat) (Q : Int32 → sd_H → Nat × Nat → Prop), a < 197 → wp (sd_aldI G 0 (ad 16) (n3 a)) (hMo n ρ ad K v x y) b Q = Q (x 16 a) (hMo n ρ ad K v x y) b) ∧
    (∀ (a : Nat) (v : Nat → Int32) (x : Nat → Nat → Int32) (y : Nat → Nat → Int64) (b : Nat × Nat) (Q : Int32 → sd_H → Nat × Nat → Prop), a < 800 → wp (sd_aldI G 0 (ad 17) (n3 a)) (hMo n ρ ad K v x y) b Q = Q (x 17 a) (hMo n ρ ad K v x y) b) ∧
    (∀ (a : Nat) (v : Nat → Int32) (x : Nat → Nat → Int32) (y : Nat → Nat → Int64) (b : Nat × Nat) (Q : Int32 → sd_H → Nat × Nat → Prop), a < 6 → wp (sd_aldI G 0 (ad 24) (n3 a)) (hMo n ρ ad K v x y) b Q = Q (x 24 a) (hMo n ρ ad K v x y) b) ∧
    (∀ (a : Nat) (v : Nat → Int32) (x : Nat → Nat → Int32) (y : Nat → Nat → Int64) (b : Nat × Nat) (Q : Int32 → sd_H → Nat × Nat → Prop), a < 6 → wp (sd_aldI G 0 (ad 25) (n3 a)) (hMo n ρ ad K v x y) b Q = Q (x 25 a) (hMo n ρ ad K v x y) b) ∧
    (∀ (a : Nat) (v : Nat → Int32) (x : Nat → Nat → Int32) (y : Nat → Nat → Int64) (b : Nat × Nat) (Q : Int32 → sd_H → Nat × Nat → Prop), a < 24 → wp (sd_aldI G 3 (ad 27) (n3 a)) (hMo n ρ ad K v x y) b Q = Q (x 27 a) (hMo n ρ ad K v x y) b) ∧
    (∀ (a : Nat) (v : Nat → Int32) (x : Nat → Nat → Int32) (y : Nat → Nat → Int64) (b : Nat × Nat) (Q : Int32 → sd_H → Nat × Nat → Prop), a < 24 → wp (sd_aldI G 0 (ad 28) (n3 a)) (hMo n ρ ad K v x y) b Q = Q (x 28 a) (hMo n ρ ad K v x y) b) ∧
    (∀ (a : Nat) (v : Nat → Int32) (x : Nat → Nat → Int32) (y : Nat → Nat → Int64) (b : Nat × Nat) (Q : Int32 → sd_H → Nat × Nat → Prop), a < 24 → wp (sd_aldI G 0 (ad 29) (n3 a)) (hMo n ρ ad K v x y) b Q = Q (x 29 a) (hMo n ρ ad K v x y) b) ∧
    (∀ (a : Nat) (v : Nat → Int32) (x : Nat → Nat → Int32) (y : Nat → Nat → Int64) (b : Nat × Nat) (Q : Int32 → sd_H → Nat × Nat → Prop), a < 80 → wp (sd_aldI G 0 (ad 30) (n3 a)) (hMo n ρ ad K v x y) b Q = Q (x 30 a) (hMo n ρ ad K v x y) b) ∧
    (∀ (a : Nat) (v : Nat → Int32) (x : Nat → Nat → Int32) (y : Nat → Nat → Int64) (b : Nat × Nat) (Q : Int32 → sd_H → Nat × Nat → Prop), a < 80 → wp (sd_aldI G 3 (ad 31) (n3 a)) (hMo n ρ ad K v x y) b Q = Q (x 31 a) (hMo n ρ ad K v x y) b) ∧
    (∀ (a : Nat) (v : Nat → Int32) (x : Nat → Nat → Int32) (y : Nat → Nat → Int64) (b : Nat × Nat) (Q : Int32 → sd_H → Nat × Nat → Prop), a < 16 → wp (sd_aldI G 0 (ad 33) (n3 a)) (hMo n ρ ad K v x y) b Q = Q (x 33 a) (hMo n ρ ad K v x y) b) ∧
    (∀ (a : Nat) (v : Nat → Int32) (x : Nat → Nat → Int32) (y : Nat → Nat → Int64) (b : Nat × Nat) (Q : Int32 → sd_H → Nat × Nat → Prop), a < 32 → wp (sd_aldI G 0 (ad 34) (n3 a)) (hMo n ρ ad K v x y) b Q = Q (x 34 a) (hMo n ρ ad K v x y) b) ∧
    (∀ (a : Nat) (v : Nat → Int32) (x : Nat → Nat → Int32) (y : Nat → Nat → Int64) (b : Nat × Nat) (Q : Int32 → sd_H → Nat × Nat → Prop), a < 32 → wp (sd_aldI G 0 (ad 35) (n3 a)) (hMo n ρ ad K v x y) b Q = Q (x 35 a) (hMo n ρ ad K v x y) b) ∧
    (∀ (a : Nat) (v : Nat → Int32) (x : Nat → Nat → Int32) (y : Nat → Nat → Int64) (b : Nat × Nat) (Q : Int32 → sd_H → Nat × Nat → Prop), a < 800 → wp (sd_aldI G 0 (ad 36) (n3 a)) (hMo n ρ ad K v x y) b Q = Q (x 36 a) (hMo n ρ ad K v x y) b) ∧
    (∀ (a : Nat) (v : Nat → Int32) (x : Nat → Nat → Int32) (y : Nat → Nat → Int64) (b : Nat × Nat) (Q : Int32 → sd_H → Nat × Nat → Prop), a < 800 → wp (sd_aldI G 0 (ad 37) (n3 a)) (hMo n ρ ad K v x y) b Q = Q (x 37 a) (hMo n ρ ad K v x y) b) ∧
    (∀ (a : Nat) (v : Nat → Int32) (x : Nat → Nat → Int32) (y : Nat → Nat → Int64) (b : Nat × Nat) (Q : Int64 → sd_H → Nat × Nat → Prop), a < 401 → wp (sd_aldL G (ad 8) (n3 a)) (hMo n ρ ad K v x y) b Q = Q (y 8 a) (hMo n ρ ad K v x y) b) ∧
    (∀ (a : Nat) (v : Nat → Int32) (x : Nat → Nat → Int32) (y : Nat → Nat → Int64) (b : Nat × Nat) (Q : Int64 → sd_H → Nat × Nat → Prop), a < 6 → wp (sd_aldL G (ad 23) (n3 a)) (hMo n ρ ad K v x y) b Q = Q (y 23 a) (hMo n ρ ad K v x y) b) :=
  ⟨fun _ _ _ _ _ _ h => hMo_ald E (by decide) (by decide) (by decide) (by decide) (by decide) h,
  fun _ _ _ _ _ _ h => hMo_ald E (by decide) (by decide) (by decide) (by decide) (by decide) h,
  fun _ _ _ _ _ _ h => hMo_ald E (by decide) (by decide) (by decide) (by decide) (by decide) h,
  fun _ _ _ _ _ _ h => hMo_ald E (by decide) (by decide) (by decide) (by decide) (by decide) h,
  fun _ _ _ _ _ _ h => hMo_ald E (by decide) (by decide) (by decide) (by decide) (by decide) h,
  fun _ _ _ _ _ _ h => hMo_ald E (by decide) (by decide) (by decide) (by decide) (by decide) h,
  fun _ _ _ _ _ _ h => hMo_ald E (by decide) (by decide) (by decide) (by decide) (by decide) h,
  fun _ _ _ _ _ _ h => hMo_ald E (by decide) (by decide) (by decide) (by decide) (by decide) h,
  fun _ _ _ _ _ _ h => hMo_ald E (by decide) (by decide) (by decide) (by decide) (by decide) h,
  fun _ _ _ _ _ _ h => hMo_ald E (by decide) (by decide) (by decide) (by decide) (by decide) h,
  fun _ _ _ _ _ _ h => hMo_ald E (by decide) (by decide) (by decide) (by decide) (by decide) h,
  fun _ _ _ _ _ _ h => hMo_ald E (by decide) (by decide) (by decide) (by decide) (by decide) h,
  fun _ _ _ _ _ _ h => hMo_ald E (by decide) (by decide) (by decide) (by decide) (by decide) h,
  fun _ _ _ _ _ _ h => hMo_ald E (by decide) (by decide) (by decide) (by decide) (by decide) h,
  fun _ _ _ _ _ _ h => hMo_ald E (by decide) (by decide) (by decide) (by decide) (by decide) h,
  fun _ _ _ _ _ _ h => hMo_ald E (by decide) (by decide) (by decide) (by decide) (by decide) h,
  fun _ _ _ _ _ _ h => hMo_ald E (by decide) (by decide) (by decide) (by decide) (by decide) h,
  fun _ _ _ _ _ _ h => hMo_ald E (by decide) (by decide) (by decide) (by decide) (by decide) h,
  fun _ _ _ _ _ _ h => hMo_ald E (by decide) (by decide) (by decide) (by decide) (by decide) h,
  fun _ _ _ _ _ _ h => hMo_ald E (by decide) (by decide) (by decide) (by decide) (by decide) h,
  fun _ _ _ _ _ _ h => hMo_aldL E (by decide) (by decide) (by decide) (by decide) (by decide) h,
  fun _ _ _ _ _ _ h => hMo_aldL E (by decide) (by decide) (by decide) (by decide) (by decide) h⟩
theorem mAs (E : mOk n ρ ad) : (∀ (a : Nat) (z : Int32) (v : Nat → Int32) (x : Nat → Nat → Int32) (y : Nat → Nat → Int64) (b : Nat × Nat) (Q : Unit → sd_H → Nat × Nat → Prop), a < 2000 → wp (sd_astI 0 (ad 1) (n3 a) z) (hMo n ρ ad K v x y) b Q = Q () (hMo n ρ ad K v (up2 x 1 a z) y) b) ∧
    (∀ (a : Nat) (z : Int32) (v : Nat → Int32) (x : Nat → Nat → Int32) (y : Nat → Nat → Int64) (b : Nat × Nat) (Q : Unit → sd_H → Nat × Nat → Prop), a < 401 → wp (sd_astI 0 (ad 5) (n3 a) z) (hMo n ρ ad K v x y) b Q = Q () (hMo n ρ ad K v (up2 x 5 a z) y) b) ∧
    (∀ (a : Nat) (z : Int32) (v : Nat → Int32) (x : Nat → Nat → Int32) (y : Nat → Nat → Int64) (b : Nat × Nat) (Q : Unit → sd_H → Nat × Nat → Prop), a < 401 → wp (sd_astI 0 (ad 6) (n3 a) z) (hMo n ρ ad K v x y) b Q = Q () (hMo n ρ ad K v (up2 x 6 a z) y) b) ∧
    (∀ (a : Nat) (z : Int32) (v : Nat → Int32) (x : Nat → Nat → Int32) (y : Nat → Nat → Int64) (b : Nat × Nat) (Q : Unit → sd_H → Nat × Nat → Prop), a < 401 → wp (sd_astI 0 (ad 7) (n3 a) z) (hMo n ρ ad K v x y) b Q = Q () (hMo n ρ ad K v (up2 x 7 a z) y) b) ∧
    (∀ (a : Nat) (z : Int32) (v : Nat → Int32) (x : Nat → Nat → Int32) (y : Nat → Nat → Int64) (b : Nat × Nat) (Q : Unit → sd_H → Nat × Nat → Prop), a < 401 → wp (sd_astI 0 (ad 9) (n3 a) z) (hMo n ρ ad K v x y) b Q = Q () (hMo n ρ ad K v (up2 x 9 a z) y) b) ∧
    (∀ (a : Nat) (z : Int32) (v : Nat → Int32) (x : Nat → Nat → Int32) (y : Nat → Nat → Int64) (b : Nat × Nat) (Q : Unit → sd_H → Nat × Nat → Prop), a < 197 → wp (sd_astI 0 (ad 15) (n3 a) z) (hMo n ρ ad K v x y) b Q = Q () (hMo n ρ ad K v (up2 x 15 a z) y) b) ∧
    (∀ (a : Nat) (z : Int32) (v : Nat → Int32) (x : Nat → Nat → Int32) (y : Nat → Nat → Int64) (b : Nat × Nat) (Q : Unit → sd_H → Nat × Nat → Prop), a < 197 → wp (sd_astI 0 (ad 16) (n3 a) z) (hMo n ρ ad K v x y) b Q = Q () (hMo n ρ ad K v (up2 x 16 a z) y) b) ∧
    (∀ (a : Nat) (z : Int32) (v : Nat → Int32) (x : Nat → Nat → Int32) (y : Nat → Nat → Int64) (b : Nat × Nat) (Q : Unit → sd_H → Nat × Nat → Prop), a < 800 → wp (sd_astI 0 (ad 17) (n3 a) z) (hMo n ρ ad K v x y) b Q = Q () (hMo n ρ ad K v (up2 x 17 a z) y) b) ∧
    (∀ (a : Nat) (z : Int32) (v : Nat → Int32) (x : Nat → Nat → Int32) (y : Nat → Nat → Int64) (b : Nat × Nat) (Q : Unit → sd_H → Nat × Nat → Prop), a < 6 → wp (sd_astI 0 (ad 24) (n3 a) z) (hMo n ρ ad K v x y) b Q = Q () (hMo n ρ ad K v (up2 x 24 a z) y) b) ∧
    (∀ (a : Nat) (z : Int32) (v : Nat → Int32) (x : Nat → Nat → Int32) (y : Nat → Nat → Int64) (b : Nat × Nat) (Q : Unit → sd_H → Nat × Nat → Prop), a < 6 → wp (sd_astI 0 (ad 25) (n3 a) z) (hMo n ρ ad K v x y) b Q = Q () (hMo n ρ ad K v (up2 x 25 a z) y) b) ∧
    (∀ (a : Nat) (z : Int32) (v : Nat → Int32) (x : Nat → Nat → Int32) (y : Nat → Nat → Int64) (b : Nat × Nat) (Q : Unit → sd_H → Nat × Nat → Prop), a < 24 → sd_nar 3 z = z → wp (sd_astI 3 (ad 27) (n3 a) z) (hMo n ρ ad K v x y) b Q = Q () (hMo n ρ ad K v (up2 x 27 a z) y) b) ∧
    (∀ (a : Nat) (z : Int32) (v : Nat → Int32) (x : Nat → Nat → Int32) (y : Nat → Nat → Int64) (b : Nat × Nat) (Q : Unit → sd_H → Nat × Nat → Prop), a < 24 → wp (sd_astI 0 (ad 28) (n3 a) z) (hMo n ρ ad K v x y) b Q = Q () (hMo n ρ ad K v (up2 x 28 a z) y) b) ∧
    (∀ (a : Nat) (z : Int32) (v : Nat → Int32) (x : Nat → Nat → Int32) (y : Nat → Nat → Int64) (b : Nat × Nat) (Q : Unit → sd_H → Nat × Nat → Prop), a < 24 → wp (sd_astI 0 (ad 29) (n3 a) z) (hMo n ρ ad K v x y) b Q = Q () (hMo n ρ ad K v (up2 x 29 a z) y) b) ∧
    (∀ (a : Nat) (z : Int32) (v : Nat → Int32) (x : Nat → Nat → Int32) (y : Nat → Nat → Int64) (b : Nat × Nat) (Q : Unit → sd_H → Nat × Nat → Prop), a < 80 → wp (sd_astI 0 (ad 30) (n3 a) z) (hMo n ρ ad K v x y) b Q = Q () (hMo n ρ ad K v (up2 x 30 a z) y) b) ∧
    (∀ (a : Nat) (z : Int32) (v : Nat → Int32) (x : Nat → Nat → Int32) (y : Nat → Nat → Int64) (b : Nat × Nat) (Q : Unit → sd_H → Nat × Nat → Prop), a < 80 → sd_nar 3 z = z → wp (sd_astI 3 (ad 31) (n3 a) z) (hMo n ρ ad K v x y) b Q = Q () (hMo n ρ ad K v (up2 x 31 a z) y) b) ∧
    (∀ (a : Nat) (z : Int32) (v : Nat → Int32) (x : Nat → Nat → Int32) (y : Nat → Nat → Int64) (b : Nat × Nat) (Q : Unit → sd_H → Nat × Nat → Prop), a < 16 → wp (sd_astI 0 (ad 33) (n3 a) z) (hMo n ρ ad K v x y) b Q = Q () (hMo n ρ ad K v (up2 x 33 a z) y) b) ∧
    (∀ (a : Nat) (z : Int32) (v : Nat → Int32) (x : Nat → Nat → Int32) (y : Nat → Nat → Int64) (b : Nat × Nat) (Q : Unit → sd_H → Nat × Nat → Prop), a < 32 → wp (sd_astI 0 (ad 34) (n3 a) z) (hMo n ρ ad K v x y) b Q = Q () (hMo n ρ ad K v (up2 x 34 a z) y) b) ∧
    (∀ (a : Nat) (z : Int32) (v : Nat → Int32) (x : Nat → Nat → Int32) (y : Nat → Nat → Int64) (b : Nat × Nat) (Q : Unit → sd_H → Nat × Nat → Prop), a < 32 → wp (sd_astI 0 (ad 35) (n3 a) z) (hMo n ρ ad K v x y) b Q = Q () (hMo n ρ ad K v (up2 x 35 a z) y) b) ∧
    (∀ (a : Nat) (z : Int32) (v : Nat → Int32) (x : Nat → Nat → Int32) (y : Nat → Nat → Int64) (b : Nat × Nat) (Q : Unit → sd_H → Nat × Nat → Prop), a < 800 → wp (sd_astI 0 (ad 36) (n3 a) z) (hMo n ρ ad K v x y) b Q = Q () (hMo n ρ ad K v (up2 x 36 a z) y) b) ∧
    (∀ (a : Nat) (z : Int32) (v : Nat → Int32) (x : Nat → Nat → Int32) (y : Nat → Nat → Int64) (b : Nat × Nat) (Q : Unit → sd_H → Nat × Nat → Prop), a < 800 → wp (sd_astI 0 (ad 37) (n3 a) z) (hMo n ρ ad K v x y) b Q = Q () (hMo n ρ ad K v (up2 x 37 a z) y) b) ∧
    (∀ (a : Nat) (z : Int64) (v : Nat → Int32) (x : Nat → Nat → Int32) (y : Nat → Nat → Int64) (b : Nat × Nat) (Q : Unit → sd_H → Nat × Nat → Prop), a < 401 → wp (sd_astL (ad 8) (n3 a) z) (hMo n ρ ad K v x y) b Q = Q () (hMo n ρ ad K v x (up2L y 8 a z)) b) ∧
    (∀ (a : Nat) (z : Int64) (v : Nat → Int32) (x : Nat → Nat → Int32) (y : Nat → Nat → Int64) (b : Nat × Nat) (Q : Unit → sd_H → Nat × Nat → Prop), a < 6 → wp (sd_astL (ad 23) (n3 a) z) (hMo n ρ ad K v x y) b Q = Q () (hMo n ρ ad K v x (up2L y 23 a z)) b) :=
  ⟨fun _ _ _ _ _ _ _ h => hMo_ast E (by decide) (by decide) (by decide) (by decide) (by decide) rfl h,
  fun _ _ _ _ _ _ _ h => hMo_ast E (by decide) (by decide) (by decide) (by decide) (by decide) rfl h,
  fun _ _ _ _ _ _ _ h => hMo_ast E (by decide) (by decide) (by decide) (by decide) (by decide) rfl h,
  fun _ _ _ _ _ _ _ h => hMo_ast E (by decide) (by decide) (by decide) (by decide) (by decide) rfl h,
  fun _ _ _ _ _ _ _ h => hMo_ast E (by decide) (by decide) (by decide) (by decide) (by decide) rfl h,
  fun _ _ _ _ _ _ _ h => hMo_ast E (by decide) (by decide) (by decide) (by decide) (by decide) rfl h,
  fun _ _ _ _ _ _ _ h => hMo_ast E (by decide) (by decide) (by decide) (by decide) (by decide) rfl h,
  fun _ _ _ _ _ _ _ h => hMo_ast E (by decide) (by decide) (by decide) (by decide) (by decide) rfl h,
  fun _ _ _ _ _ _ _ h => hMo_ast E (by decide) (by decide) (by decide) (by decide) (by decide) rfl h,
  fun _ _ _ _ _ _ _ h => hMo_ast E (by decide) (by decide) (by decide) (by decide) (by decide) rfl h,
  fun _ _ _ _ _ _ _ h hz => hMo_ast E (by decide) (by decide) (by decide) (by decide) (by decide) hz h,
  fun _ _ _ _ _ _ _ h => hMo_ast E (by decide) (by decide) (by decide) (by decide) (by decide) rfl h,
  fun _ _ _ _ _ _ _ h => hMo_ast E (by decide) (by decide) (by decide) (by decide) (by decide) rfl h,
  fun _ _ _ _ _ _ _ h => hMo_ast E (by decide) (by decide) (by decide) (by decide) (by decide) rfl h,
  fun _ _ _ _ _ _ _ h hz => hMo_ast E (by decide) (by decide) (by decide) (by decide) (by decide) hz h,
  fun _ _ _ _ _ _ _ h => hMo_ast E (by decide) (by decide) (by decide) (by decide) (by decide) rfl h,
  fun _ _ _ _ _ _ _ h => hMo_ast E (by decide) (by decide) (by decide) (by decide) (by decide) rfl h,
  fun _ _ _ _ _ _ _ h => hMo_ast E (by decide) (by decide) (by decide) (by decide) (by decide) rfl h,
  fun _ _ _ _ _ _ _ h => hMo_ast E (by decide) (by decide) (by decide) (by decide) (by decide) rfl h,
  fun _ _ _ _ _ _ _ h => hMo_ast E (by decide) (by decide) (by decide) (by decide) (by decide) rfl h,
  fun _ _ _ _ _ _ _ h => hMo_astL E (by decide) (by decide) (by decide) (by decide) (by decide) h,
  fun _ _ _ _ _ _ _ h => hMo_astL E (by decide) (by decide) (by decide) (by decide) (by decide) h⟩
end MB
theorem ald_lit (G : sd_G) (t a k : Nat) : sd_aldI G t a (no_index (OfNat.ofNat k)) = sd_aldI G t a (n3 (OfNat.ofNat k)) := rfl
theorem ast_lit (t a k : Nat) (z : Int32) : sd_astI t a (no_index (OfNat.ofNat k)) z = sd_astI t a (n3 (OfNat.ofNat k)) z := rfl
