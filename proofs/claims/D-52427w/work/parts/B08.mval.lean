/-! THE PLAIN LAW: rows for the stack -/
def fmd (a m : Int32) : Int32 := if 0 ≤ (a ^^^ m) then a - a / m * m else if a - a / m * m = 0 then a - a / m * m else a - a / m * m + m
theorem j_floorMod {G : sd_G} {a m : Int32} {h : sd_H} {b : Nat × Nat} {Q : Int32 → sd_H → Nat × Nat → Prop} (hm : m ≠ 0) : wp (fJ4_floorMod G a m) h b Q = Q (fmd a m) h b := by
  unfold fJ4_floorMod fmd
  simp only [wp_bnd, wp_nz hm, wp_ret, wp_ite]
  split
  · rfl
  · split <;> rfl
def askI (q : Nat → Nat) (x : Nat → Nat → Int32) (t : TT) (o w : Int32) : Int32 := if o = 15 then t.1 0 else if o = 16 then cnt (fndB t 1) (q 26) else if o = 17 then t.1 3 else if o = 18 then bitc (t.1 4) else if o = 19 then x 24 w.toNatClampNeg else if o = 20 then x 25 w.toNatClampNeg else if o = 100 then w else bI (seeN (q 21) (q 26) x t w)
def turI (q : Nat → Nat) (t : TT) (o a : Int32) : Int32 := if o = 21 then n3 (t.2.1 (fmd a (n3 (q 20))).toNatClampNeg) else if o = 24 then 1 - a else if o = 105 then -a else bI (!decide (a < 0) && !decide (n3 (q 26) ≤ a) && decide (t.2.2.2.2 a.toNatClampNeg = 2))
def recI (o a c : Int32) : Int32 := if o = 25 then a &&& c else if o = 27 then (if c < a then c else a) else if o = 28 then mxI a c else if o = 101 then a + c else if o = 102 then a - c else if o = 103 then a * c else if o = 104 then (if c = 0 then 0 else a / c) else if o = 106 then bI (!decide (c ≤ a)) else if o = 107 then bI (!decide (a ≤ c)) else if o = 108 then bI (decide (a = c)) else if o = 109 then bI (!decide (c < a)) else if o = 110 then bI (!decide (a < c)) else a ||| c
def isAs (o : Int32) : Bool := decide (o = 100) || (!decide (o < 15) && !decide (20 < o)) || decide (o = 22)
def isOn (o : Int32) : Bool := decide (o = 105) || decide (o = 24) || decide (o = 21) || decide (o = 23)
def stpE (q : Nat → Nat) (x : Nat → Nat → Int32) (t : TT) (o w : Int32) (st : List Int32) : List Int32 := if isAs o then askI q x t o w :: st else if isOn o then (match st with
  | a :: r => turI q t o a :: r
  | [] => []) else (match st with
  | c :: a :: r => recI o a c :: r
  | _ => [])
def evl (q : Nat → Nat) (x : Nat → Nat → Int32) (t : TT) : Nat → Nat → List Int32 → List Int32
  | 0, _, st => st
  | r + 1, i, st => evl q x t r (i + 1) (stpE q x t (x 36 i) (x 37 i) st)
/-- how many numbers lie on the stack behind the rows -/
def chk (ne : Nat) (x : Nat → Nat → Int32) : Nat → Nat → Nat → Option Nat
  | 0, _, d => some d
  | r + 1, i, d => if isAs (x 36 i) then (if (x 36 i = 19 ∨ x 36 i = 20) ∧ ¬ (∃ e, e < ne ∧ x 37 i = n3 e) then none else chk ne x r (i + 1) (d + 1)) else if isOn (x 36 i) then (if 1 ≤ d then chk ne x r (i + 1) d else none) else (if 2 ≤ d then chk ne x r (i + 1) (d - 1) else none)
def hdV (st : List Int32) : Int32 := match st with
  | [] => 1
  | a :: _ => a
def valP (q : Nat → Nat) (x : Nat → Nat → Int32) (t : TT) (p : Nat) : Int32 := hdV (evl q x t ((x 35 p).toNatClampNeg - (x 34 p).toNatClampNeg) (x 34 p).toNatClampNeg [])
/-- a part's rows: where, and how many numbers they leave -/
def okR (ne : Nat) (x : Nat → Nat → Int32) (p d : Nat) : Prop := ∃ i0 i1, x 34 p = n3 i0 ∧ x 35 p = n3 i1 ∧ i0 ≤ i1 ∧ i1 ≤ 800 ∧ chk ne x (i1 - i0) i0 0 = some d
def stk (g : Nat → Int32) : List Int32 → Prop
  | [] => True
  | a :: r => g r.length = a ∧ stk g r
theorem stk_up {g : Nat → Int32} {k : Nat} {z : Int32} : ∀ st : List Int32, stk g st → st.length ≤ k → stk (upd g k z) st := by
  intro st
  induction st with
  | nil => intro _ _; exact True.intro
  | cons a r ih =>
    intro h hk
    have hk' : r.length + 1 ≤ k := hk
    exact ⟨by rw [upd_ne (by omega)]; exact h.1, ih h.2 (by omega)⟩
/-- the stack's array set -/
def s7 (x : Nat → Nat → Int32) (κ g : Nat → Int32) : Nat → Nat → Int32 := fun j => if j = 16 then κ else if j = 17 then g else x j
theorem s7s : (∀ x κ g, s7 x κ g 17 = g) ∧ (∀ x κ g, s7 x κ g 16 = κ) ∧ (∀ x κ g, s7 x κ g 24 = x 24) ∧ (∀ x κ g, s7 x κ g 25 = x 25) ∧ (∀ x κ g, s7 x κ g 27 = x 27) ∧ (∀ x κ g, s7 x κ g 28 = x 28) ∧ (∀ x κ g, s7 x κ g 29 = x 29) ∧ (∀ x κ g, s7 x κ g 30 = x 30) ∧ (∀ x κ g, s7 x κ g 31 = x 31) ∧ (∀ x κ g, s7 x κ g 33 = x 33) ∧ (∀ x κ g, s7 x κ g 34 = x 34) ∧ (∀ x κ g, s7 x κ g 35 = x 35) ∧ (∀ x κ g, s7 x κ g 36 = x 36) ∧ (∀ x κ g, s7 x κ g 37 = x 37) := ⟨fun _ _ _ => rfl, fun _ _ _ => rfl, fun _ _ _ => rfl, fun _ _ _ => rfl, fun _ _ _ => rfl, fun _ _ _ => rfl, fun _ _ _ => rfl, fun _ _ _ => rfl, fun _ _ _ => rfl, fun _ _ _ => rfl, fun _ _ _ => rfl, fun _ _ _ => rfl, fun _ _ _ => rfl, fun _ _ _ => rfl⟩
theorem up2_s7 (x : Nat → Nat → Int32) (κ g w : Nat → Int32) (a : Nat) (z : Int32) : up2 (sx (s7 x κ g) w) 17 a z = sx (s7 x κ (upd g a z)) w := by
  funext j
  unfold up2 sx s7
  by_cases h : j = 17
  · subst h
    rfl
  · rw [if_neg h, if_neg h, if_neg h]
theorem s7_self (x : Nat → Nat → Int32) : s7 x (x 16) (x 17) = x := by
  funext j
  unfold s7
  by_cases h : j = 16
  · subst h; rfl
  · rw [if_neg h]
    by_cases h : j = 17
    · subst h; rfl
    · rw [if_neg h]
section MV
variable {n : Nat} {ρ : Nat → Option Nat} {ad : Nat → Nat} {K : Nat → Option sd_E} {v : Nat → Int32} {x : Nat → Nat → Int32} {y : Nat → Nat → Int64} {G : sd_G} {t : TT} {b : Nat × Nat} {h : sd_H} {q : Nat → Nat}
theorem m_isAsked {o : Int32} {Q : Int32 → sd_H → Nat × Nat → Prop} : wp (fX5_isAsked G o) h b Q = Q (bI (isAs o)) h b := by
  unfold fX5_isAsked isAs
  simp only [↓wp_bnd, ↓wp_ret, ↓wp_ite, ↓reduceIte, m_isIn]
  by_cases c1 : o = 100
  · simp [c1, bI]
  · by_cases c2 : o < 15
    · by_cases c3 : o = 22 <;> simp [c1, c2, c3, bI]
    · by_cases c4 : 20 < o
      · by_cases c3 : o = 22 <;> simp [c1, c2, c3, c4, bI]
      · simp [c1, c2, c4, bI]
theorem m_isOfOneNow {o : Int32} {Q : Int32 → sd_H → Nat × Nat → Prop} : wp (fX5_isOfOneNow G o) h b Q = Q (bI (isOn o)) h b := by
  unfold fX5_isOfOneNow isOn
  simp only [↓wp_bnd, ↓wp_ret, ↓wp_ite, ↓reduceIte]
  by_cases c1 : o = 105
  · simp [c1, bI]
  · by_cases c2 : o = 24
    · simp [c2, bI]
    · by_cases c3 : o = 21
      · simp [c3, bI]
      · by_cases c4 : o = 23 <;> simp [c1, c2, c3, c4, bI]
theorem m_reckon {o a c : Int32} {Q : Int32 → sd_H → Nat × Nat → Prop} : wp (fX5_reckon G o a c) h b Q = Q (recI o a c) h b := by
  unfold fX5_reckon recI
  by_cases c0 : o = 25
  · rw [if_pos c0, if_pos c0]
    simp only [↓wp_bnd, ↓wp_ret, ↓wp_ite, ↓reduceIte]
  rw [if_neg c0, if_neg c0]
  by_cases c1 : o = 27
  · rw [if_pos c1, if_pos c1]
    unfold fJ4_min
    simp only [↓wp_bnd, ↓wp_ret, ↓wp_ite, ↓reduceIte]
    split <;> rfl
  rw [if_neg c1, if_neg c1]
  by_cases c2 : o = 28
  · rw [if_pos c2, if_pos c2]
    unfold fJ4_max mxI
    simp only [↓wp_bnd, ↓wp_ret, ↓wp_ite, ↓reduceIte]
    split <;> rfl
  rw [if_neg c2, if_neg c2]
  by_cases c3 : o = 101
  · rw [if_pos c3, if_pos c3]
    simp only [↓wp_bnd, ↓wp_ret, ↓wp_ite, ↓reduceIte]
  rw [if_neg c3, if_neg c3]
  by_cases c4 : o = 102
  · rw [if_pos c4, if_pos c4]
    simp only [↓wp_bnd, ↓wp_ret, ↓wp_ite, ↓reduceIte]
  rw [if_neg c4, if_neg c4]
  by_cases c5 : o = 103
  · rw [if_pos c5, if_pos c5]
    simp only [↓wp_bnd, ↓wp_ret, ↓wp_ite, ↓reduceIte]
  rw [if_neg c5, if_neg c5]
  by_cases c6 : o = 104
  · rw [if_pos c6, if_pos c6]
    simp only [↓wp_bnd, ↓wp_ret, ↓wp_ite, ↓reduceIte]
    by_cases h1 : c = 0
    · rw [if_pos h1, if_pos h1]
    · rw [if_neg h1, if_neg h1, wp_nz h1]
  rw [if_neg c6, if_neg c6]
  by_cases c7 : o = 106
  · rw [if_pos c7, if_pos c7]
    simp only [↓wp_bnd, ↓wp_ret, ↓wp_ite, ↓reduceIte, m_one]
    by_cases h1 : c ≤ a <;> simp [bI, h1]
  rw [if_neg c7, if_neg c7]
  by_cases c8 : o = 107
  · rw [if_pos c8, if_pos c8]
    simp only [↓wp_bnd, ↓wp_ret, ↓wp_ite, ↓reduceIte, m_one]
    by_cases h1 : a ≤ c <;> simp [bI, h1]
  rw [if_neg c8, if_neg c8]
  by_cases c9 : o = 108
  · rw [if_pos c9, if_pos c9]
    simp only [↓wp_bnd, ↓wp_ret, ↓wp_ite, ↓reduceIte, m_one]
    by_cases h1 : a = c <;> simp [bI, h1]
  rw [if_neg c9, if_neg c9]
  by_cases c10 : o = 109
  · rw [if_pos c10, if_pos c10]
    simp only [↓wp_bnd, ↓wp_ret, ↓wp_ite, ↓reduceIte, m_one]
    by_cases h1 : c < a <;> simp [bI, h1]
  rw [if_neg c10, if_neg c10]
  by_cases c11 : o = 110
  · rw [if_pos c11, if_pos c11]
    simp only [↓wp_bnd, ↓wp_ret, ↓wp_ite, ↓reduceIte, m_one]
    by_cases h1 : a < c <;> simp [bI, h1]
  rw [if_neg c11, if_neg c11]
  simp only [↓wp_bnd, ↓wp_ret, ↓wp_ite, ↓reduceIte]
theorem m_ask {o w : Int32} {Q : Int32 → sd_H → Nat × Nat → Prop} (E : mOk n ρ ad) (hp : ad 4 = ad 20) (hv : okV q v) (hP : okP q x) (hw : (o = 19 ∨ o = 20) → ∃ e, e < q 22 ∧ w = n3 e) : wp (fX5_ask G (ad 0) o w) (hMo n ρ ad K v (sx x (enc t)) y) b Q = Q (askI q x t o w) (hMo n ρ ad K v (sx x (enc t)) y) b := by
  have hn := hP.2.2.2.1
  have he := hP.2.2.1
  unfold fX5_ask askI
  split
  · simp (disch := omega) only [↓wp_bnd, ↓wp_ret, ↓wp_ite, ↓reduceIte, ↓mFl E, ↓mPu E, ↓mAr E, mAr E, ↓mAs E, mAs E, ald_lit, sxs, enc_nu]
  split
  · simp only [↓wp_bnd, ↓wp_ret, ↓wp_ite, ↓reduceIte, ↓mFl E, ↓mPu E, m_foundNow E hp hv.2.2.2.1 hn]
  split
  · simp (disch := omega) only [↓wp_bnd, ↓wp_ret, ↓wp_ite, ↓reduceIte, ↓mFl E, ↓mPu E, ↓mAr E, mAr E, ↓mAs E, mAs E, ald_lit, sxs, enc_nu]
  split
  · simp (disch := omega) only [↓wp_bnd, ↓wp_ret, ↓wp_ite, ↓reduceIte, ↓mFl E, ↓mPu E, ↓mAr E, mAr E, ↓mAs E, mAs E, ald_lit, sxs, enc_nu, j_bitCount]
  split
  · next h1 =>
    obtain ⟨e, h2, h3⟩ := hw (Or.inl h1)
    subst h3
    simp (disch := omega) only [↓wp_bnd, ↓wp_ret, ↓wp_ite, ↓reduceIte, ↓mFl E, ↓mPu E, ↓mAr E, mAr E, ↓mAs E, mAs E, hp, sxs, n3_nn]
  split
  · next h1 =>
    obtain ⟨e, h2, h3⟩ := hw (Or.inr h1)
    subst h3
    simp (disch := omega) only [↓wp_bnd, ↓wp_ret, ↓wp_ite, ↓reduceIte, ↓mFl E, ↓mPu E, ↓mAr E, mAr E, ↓mAs E, mAs E, hp, sxs, n3_nn]
  split
  · simp only [↓wp_bnd, ↓wp_ret, ↓wp_ite, ↓reduceIte]
  · simp only [↓wp_bnd, ↓wp_ret, ↓wp_ite, ↓reduceIte, ↓mFl E, ↓mPu E, m_seen E hp hv.2.2.2.1 hn hv.2.1 hP.2.1.2, m_one]
    cases seeN (q 21) (q 26) x t w <;> simp [bI]
/-- what is left of a division by a small number -/
theorem rem3_toInt {m : Nat} (h1 : 2 ≤ m) (h2 : m ≤ 8) (a : Int32) : (a - a / n3 m * n3 m).toInt = a.toInt.tmod (m : Int) := by
  have hm : (n3 m).toInt = (m : Int) := n3_toInt (by omega)
  have hne : n3 m ≠ -1 := by
    intro e
    rw [n3_neg1 (by omega)] at e
    exact e
  rw [Int32.toInt_sub, Int32.toInt_mul, Int32.toInt_div_of_ne_right _ _ hne, hm, Int.sub_bmod_bmod, Int.mul_comm, ← Int.tmod_def]
  have l1 : a.toInt.tmod (m : Int) < m := Int.tmod_lt_of_pos _ (by omega)
  have l2 : - (m : Int) < a.toInt.tmod (m : Int) := by
    have := Int.tmod_lt_of_pos (-a.toInt) (show (0 : Int) < m by omega)
    rw [Int.neg_tmod] at this
    omega
  exact Int.bmod_eq_of_le (by omega) (by omega)
theorem rem_sgn {m : Nat} (h1 : 2 ≤ m) (a : Int) : (0 ≤ a → 0 ≤ a.tmod (m : Int)) ∧ (a < 0 → a.tmod (m : Int) ≤ 0) ∧ a.tmod (m : Int) < m ∧ - (m : Int) < a.tmod (m : Int) := by
  refine ⟨fun h => Int.tmod_nonneg _ h, fun h => ?_, Int.tmod_lt_of_pos _ (by omega), ?_⟩
  · have := Int.tmod_nonneg (a := -a) (m : Int) (by omega)
    rw [Int.neg_tmod] at this
    omega
  · have := Int.tmod_lt_of_pos (-a) (show (0 : Int) < m by omega)
    rw [Int.neg_tmod] at this
    omega
theorem xor_sgn {m : Nat} (h2 : m ≤ 8) (a : Int32) : (0 ≤ (a ^^^ n3 m)) = (0 ≤ a) := by
  apply propext
  rw [Int32.le_iff_toInt_le, Int32.le_iff_toInt_le]
  show (0 : Int) ≤ (a ^^^ n3 m).toBitVec.toInt ↔ (0 : Int) ≤ a.toBitVec.toInt
  rw [BitVec.toInt_pos_iff, BitVec.toInt_pos_iff, ← BitVec.msb_eq_false_iff_two_mul_lt, ← BitVec.msb_eq_false_iff_two_mul_lt, Int32.toBitVec_xor, BitVec.msb_xor]
  have : (n3 m).toBitVec.msb = false := by
    rw [BitVec.msb_eq_false_iff_two_mul_lt, ← BitVec.toInt_pos_iff]
    show (0 : Int) ≤ (n3 m).toInt
    rw [n3_toInt (by omega)]
    omega
  rw [this, Bool.xor_false]
/-- where floorMod lies, and what the other side makes -/
theorem fmd_lt {m : Nat} (h1 : 2 ≤ m) (h2 : m ≤ 8) (a : Int32) : ∃ k, k < m ∧ fmd a (n3 m) = n3 k ∧ (if 0 ≤ a - a / n3 m * n3 m then a - a / n3 m * n3 m else a - a / n3 m * n3 m + n3 m) = n3 k := by
  have hr := rem3_toInt h1 h2 a
  obtain ⟨g1, g2, g3, g4⟩ := rem_sgn h1 a.toInt
  have hm : (n3 m).toInt = (m : Int) := n3_toInt (by omega)
  unfold fmd
  simp only [xor_sgn h2]
  generalize a - a / n3 m * n3 m = r at hr ⊢
  have hz : (0 : Int32).toInt = 0 := rfl
  have big : ∀ (z : Int32) (k : Nat), z.toInt = (k : Int) → k < 100 → z = n3 k := by
    intro z k e hk
    refine Int32.toInt_inj.mp ?_
    rw [n3_toInt (by omega)]
    exact e
  by_cases c : 0 ≤ r.toInt
  · refine ⟨r.toInt.toNat, by omega, ?_, ?_⟩
    · have e : r = n3 r.toInt.toNat := big r _ (by omega) (by omega)
      split
      · exact e
      · next c2 =>
        rw [Int32.le_iff_toInt_le, hz] at c2
        have : r = 0 := Int32.toInt_inj.mp (by rw [hz]; omega)
        rw [if_pos this]
        exact e
    · rw [if_pos (by rw [Int32.le_iff_toInt_le, hz]; exact c)]
      exact big r _ (by omega) (by omega)
  · have c2 : ¬ 0 ≤ a.toInt := by
      intro h
      have := g1 h
      omega
    have es : (r + n3 m).toInt = r.toInt + m := by
      rw [Int32.toInt_add, hm]
      exact Int.bmod_eq_of_le (by omega) (by omega)
    have e := big (r + n3 m) (r.toInt + m).toNat (by omega) (by omega)
    refine ⟨(r.toInt + m).toNat, by omega, ?_, ?_⟩
    · rw [if_neg (by rw [Int32.le_iff_toInt_le, hz]; exact c2), if_neg, e]
      intro h0
      rw [h0, hz] at c
      omega
    · rw [if_neg (by rw [Int32.le_iff_toInt_le, hz]; exact c), e]
theorem m_turned {o a : Int32} {Q : Int32 → sd_H → Nat × Nat → Prop} (E : mOk n ρ ad) (hp : ad 4 = ad 20) (hv : okV q v) (hP : okP q x) : wp (fX5_turned G (ad 0) o a) (hMo n ρ ad K v (sx x (enc t)) y) b Q = Q (turI q t o a) (hMo n ρ ad K v (sx x (enc t)) y) b := by
  have hn := hP.2.2.2.1
  have hs := hP.1
  have hz : n3 (q 20) ≠ 0 := by
    intro e
    have := (n3_eq (a := q 20) (b := 0) (by omega) (by omega)).mp e
    omega
  unfold fX5_turned turI
  split
  · obtain ⟨k, h1, h2, -⟩ := fmd_lt hs.1 hs.2 a
    simp (disch := omega) only [↓wp_bnd, ↓wp_ret, ↓wp_ite, ↓reduceIte, ↓mFl E, ↓mPu E, hp, hv.1, j_floorMod hz, h2, m_tall E, n3_nn]
  split
  · simp only [↓wp_bnd, ↓wp_ret, ↓wp_ite, ↓reduceIte]
  split
  · simp only [↓wp_bnd, ↓wp_ret, ↓wp_ite, ↓reduceIte]
  · simp only [↓wp_bnd, ↓wp_ret, ↓wp_ite, ↓reduceIte, ↓mFl E, ↓mPu E, m_isFind E hp hv.2.2.2.1 hn, m_one]
    by_cases c1 : a < 0
    · simp [c1, bI]
    · by_cases c2 : n3 (q 26) ≤ a
      · simp [c1, c2, bI]
      · obtain c3 | ⟨f, c3, c4⟩ := n3_cases a
        · exact absurd c3 c1
        · subst c4
          have c5 : ¬ q 26 ≤ f := by
            rw [n3_le (by omega) c3] at c2
            exact c2
          simp only [c1, c2, ↓reduceIte]
          rw [m_sure E (by omega), n3_nn c3]
          by_cases c6 : t.2.2.2.2 f = 2 <;> simp [c6, bI]
theorem stpE_len {o w : Int32} {st : List Int32} (h1 : isAs o = true ∨ (isOn o = true ∧ 1 ≤ st.length) ∨ 2 ≤ st.length) : (stpE q x t o w st).length = if isAs o then st.length + 1 else if isOn o then st.length else st.length - 1 := by
  unfold stpE
  split
  · rfl
  · split
    · next h2 h3 =>
      cases st with
      | nil => simp
      | cons a r => rfl
    · next h2 h3 =>
      cases st with
      | nil => simp
      | cons a r =>
        cases r with
        | nil =>
          simp at h1
          rcases h1 with h1 | h1
          · exact absurd h1 h2
          · exact absurd h1 h3
        | cons c r => rfl
theorem m_part {p d : Nat} {κ g : Nat → Int32} {Q : Int32 → sd_H → Nat × Nat → Prop} (E : mOk n ρ ad) (hp : ad 4 = ad 20) (hv : okV q v) (hP : okP q x) (hR : okR (q 22) x p d) (hd : d ≤ 1) (hp32 : p < 32) (k : ∀ g', Q (valP q x t p) (hMo n ρ ad K v (sx (s7 x κ g') (enc t)) y) b) : wp (fX5_reckonPart G (ad 0) (n3 p)) (hMo n ρ ad K v (sx (s7 x κ g) (enc t)) y) b Q := by
  obtain ⟨i0, i1, e0, e1, h01, h8, hc⟩ := hR
  unfold fX5_reckonPart
  simp (disch := omega) only [↓wp_bnd, ↓wp_ret, ↓wp_ite, ↓reduceIte, ↓mFl E, ↓mPu E, ↓mAr E, mAr E, ↓mAs E, mAs E, hp, sxs, s7s, e0]
  have hP7 : ∀ g, okP q (s7 x κ g) := fun g => hP
  have key := wp_lp (F := fun k s => fX5_reckonPart_b12 G k s.1 s.2.1 s.2.2.1 s.2.2.2) (b := b) (Q := Q) i1 (fun i (a : (Nat → Int32) × List Int32) => (ad 0, n3 p, n3 a.2.length, n3 i)) (fun a => hMo n ρ ad K v (sx (s7 x κ a.1) (enc t)) y) (fun i a => stk a.1 a.2 ∧ a.2.length ≤ i ∧ chk (q 22) x (i1 - i) i a.2.length = some d) (fun i a => (.inl (upd a.1 ((stpE q x t (x 36 i) (x 37 i) a.2).length - 1) (hdV (stpE q x t (x 36 i) (x 37 i) a.2)), stpE q x t (x 36 i) (x 37 i) a.2) : ((Nat → Int32) × List Int32) ⊕ ((Nat → Int32) × List Int32))) (fun a => a) (fun a => Q (hdV a.2) (hMo n ρ ad K v (sx (s7 x κ a.1) (enc t)) y) b) ?_ ?_ sd_FU i0 (g, []) h01 (by unfold sd_FU; omega) ⟨True.intro, Nat.zero_le _, hc⟩
  · refine cast key.symm ?_
    have : ∀ r i (a : (Nat → Int32) × List Int32), ∃ g', lp (fun i a => (.inl (upd a.1 ((stpE q x t (x 36 i) (x 37 i) a.2).length - 1) (hdV (stpE q x t (x 36 i) (x 37 i) a.2)), stpE q x t (x 36 i) (x 37 i) a.2) : ((Nat → Int32) × List Int32) ⊕ ((Nat → Int32) × List Int32))) (fun a => a) r i a = (g', evl q x t r i a.2) := by
      intro r
      induction r with
      | zero => rintro i a; exact ⟨a.1, rfl⟩
      | succ r ih =>
        intro i a
        exact ih (i + 1) _
    obtain ⟨g', hg⟩ := this (i1 - i0) i0 (g, [])
    rw [hg]
    have := k g'
    unfold valP at this
    rw [e0, e1, n3_nn (by omega), n3_nn (by omega)] at this
    exact this
  · rintro kk a ⟨s1, s2, s3⟩
    obtain ⟨g, st⟩ := a
    simp only at s1 s2 s3 ⊢
    rw [Nat.sub_self] at s3
    have s4 : st.length = d := Option.some.inj s3
    unfold fX5_reckonPart_b12
    simp (disch := omega) only [↓wp_bnd, ↓wp_ret, ↓wp_ite, ↓reduceIte, ↓mFl E, ↓mPu E, ↓mAr E, mAr E, ↓mAs E, mAs E, ald_lit, hp, sxs, s7s, e1, n3_le, Nat.le_refl]
    match st, s1, s4 with
    | [], _, _ => simp [n3, hdV]
    | [z], s1, _ =>
      rw [if_neg (show ¬ (n3 [z].length = 0) from (show ¬ (n3 1 = 0) by decide))]
      rw [show g 0 = z from s1.1]
      rfl
    | z :: w :: r, _, s4 =>
      simp at s4
      omega
  · rintro kk i a hi ⟨s1, s2, s3⟩
    obtain ⟨g, st⟩ := a
    simp only at s1 s2 s3 ⊢
    rw [show i1 - i = (i1 - (i + 1)) + 1 by omega] at s3
    simp only [chk] at s3
    have h1 : ¬ i1 ≤ i := by omega
    unfold fX5_reckonPart_b12
    by_cases c1 : isAs (x 36 i) = true
    · rw [if_pos c1] at s3
      split at s3
      · cases s3
      · next c2 =>
        have hw : (x 36 i = 19 ∨ x 36 i = 20) → ∃ e, e < q 22 ∧ x 37 i = n3 e := fun h => Classical.byContradiction fun h2 => c2 ⟨h, h2⟩
        have e2 : stpE q x t (x 36 i) (x 37 i) st = askI q x t (x 36 i) (x 37 i) :: st := by
          unfold stpE
          rw [if_pos c1]
        have e3 : askI q (s7 x κ g) t (x 36 i) (x 37 i) = askI q x t (x 36 i) (x 37 i) := rfl
        refine ⟨fun a' ha => ?_, ?_⟩
        · cases ha
          rw [e2]
          exact ⟨⟨upd_same _ _ _, stk_up st s1 (Nat.le_refl _)⟩, by simp; omega, s3⟩
        · rw [e2]
          simp (disch := omega) only [↓wp_bnd, ↓wp_ret, ↓wp_ite, ↓reduceIte, ↓mFl E, ↓mPu E, ↓mAr E, mAr E, ↓mAs E, mAs E, hp, sxs, s7s, e1, n3_le, h1, m_isAsked, bI_0, c1, Bool.true_eq_false]
          rw [m_ask E hp hv (hP7 g) hw]
          simp (disch := omega) only [↓wp_bnd, ↓wp_ret, ↓wp_ite, ↓reduceIte, ↓mAr E, mAr E, ↓mAs E, mAs E, sxs, up2_s7, n3_addl, e3]
          rfl
    · rw [if_neg c1] at s3
      have c1' : isAs (x 36 i) = false := by simpa using c1
      by_cases c2 : isOn (x 36 i) = true
      · rw [if_pos c2] at s3
        split at s3
        · next c3 =>
          match st, s1, s2, s3, c3 with
          | z :: r, s1, s2, s3, _ =>
            have e2 : stpE q x t (x 36 i) (x 37 i) (z :: r) = turI q t (x 36 i) z :: r := by
              unfold stpE
              rw [if_neg c1, if_pos c2]
            have s2' : r.length + 1 ≤ i := by simpa using s2
            refine ⟨fun a' ha => ?_, ?_⟩
            · cases ha
              rw [e2]
              exact ⟨⟨upd_same _ _ _, stk_up r s1.2 (Nat.le_refl _)⟩, by simp; omega, s3⟩
            · rw [e2]
              have e4 : n3 (z :: r).length - 1 = n3 r.length := n3_sub (show 1 ≤ r.length + 1 by omega)
              simp (disch := omega) only [↓wp_bnd, ↓wp_ret, ↓wp_ite, ↓reduceIte, ↓mFl E, ↓mPu E, ↓mAr E, mAr E, ↓mAs E, mAs E, hp, sxs, s7s, e1, n3_le, h1, m_isAsked, m_isOfOneNow, bI_0, c1', c2, Bool.true_eq_false, e4]
              rw [show g r.length = z from s1.1, m_turned E hp hv (hP7 g)]
              simp (disch := omega) only [↓wp_bnd, ↓wp_ret, ↓wp_ite, ↓reduceIte, ↓mAr E, mAr E, ↓mAs E, mAs E, sxs, up2_s7, n3_addl]
              rfl
        · cases s3
      · rw [if_neg c2] at s3
        have c2' : isOn (x 36 i) = false := by simpa using c2
        split at s3
        · next c3 =>
          match st, s1, s2, s3, c3 with
          | z :: w :: r, s1, s2, s3, _ =>
            have e2 : stpE q x t (x 36 i) (x 37 i) (z :: w :: r) = recI (x 36 i) w z :: r := by
              unfold stpE
              rw [if_neg c1, if_neg c2]
            have s2' : r.length + 1 + 1 ≤ i := by simpa using s2
            refine ⟨fun a' ha => ?_, ?_⟩
            · cases ha
              rw [e2]
              exact ⟨⟨upd_same _ _ _, stk_up r s1.2.2 (Nat.le_refl _)⟩, by simp; omega, s3⟩
            · rw [e2]
              have e4 : n3 (z :: w :: r).length + -1 = n3 (r.length + 1) := by
                rw [← Int32.sub_eq_add_neg]
                exact n3_sub (show 1 ≤ r.length + 1 + 1 by omega)
              have e5 : n3 (r.length + 1) - 1 = n3 r.length := n3_sub (show 1 ≤ r.length + 1 by omega)
              simp (disch := omega) only [↓wp_bnd, ↓wp_ret, ↓wp_ite, ↓reduceIte, ↓mFl E, ↓mPu E, ↓mAr E, mAr E, ↓mAs E, mAs E, hp, sxs, s7s, e1, n3_le, h1, m_isAsked, m_isOfOneNow, bI_0, c1', c2', Bool.true_eq_false, e4, e5, m_reckon, up2_s7, n3_addl]
              rw [show g r.length = w from s1.2.1, show g (r.length + 1) = z from s1.1]
              rfl
        · cases s3
end MV
