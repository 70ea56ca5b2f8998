/-! THE PLAIN LAW: a whole number by a whole number other than 0 is no NaN -/
theorem fpt : FP.Core.Fmt.tails FP.Core.b64 = 4503599627370496 ∧ FP.Core.Fmt.exps FP.Core.b64 = 2048 ∧ FP.Core.Fmt.qmin FP.Core.b64 = -1074 ∧ FP.Core.Fmt.qmax FP.Core.b64 = 971 ∧ 2 ^ FP.Core.b64.p = 9007199254740992 := by decide
def fpG : FP.Core.Datum → Prop
  | .nan => False
  | .inf _ => True
  | .fin _ c q => c < 9007199254740992 ∧ q ≤ 971
theorem fpG_enc {d : FP.Core.Datum} (h : fpG d) : FP.Core.encode FP.Core.b64 d % 9223372036854775808 ≤ 9218868437227405312 := by
  obtain ⟨t1, t2, t3, t4, t5⟩ := fpt
  cases d with
  | nan => exact h.elim
  | inf s =>
    unfold FP.Core.encode FP.Core.assemble
    rw [t1, t2]
    cases s <;> decide
  | fin s c q =>
    obtain ⟨h1, h2⟩ := h
    simp only [FP.Core.encode, FP.Core.assemble, t1, t2, t3]
    have hs : s.toNat = 0 ∨ s.toNat = 1 := by cases s <;> simp
    split
    · rcases hs with hs | hs <;> rw [hs] <;> omega
    · rcases hs with hs | hs <;> rw [hs] <;> omega
theorem fpG_rr {s : Bool} {n d : Nat} {e : Int} : fpG (FP.Core.roundRatio FP.Core.b64 s n d e) := by
  obtain ⟨t1, t2, t3, t4, t5⟩ := fpt
  unfold FP.Core.roundRatio
  split
  · exact ⟨by omega, by rw [t3]; omega⟩
  · unfold FP.Core.roundAt FP.Core.settle FP.Core.bound
    rw [t1, t4, t5]
    split
    · next hc =>
      split
      · next hq => exact ⟨hc, hq⟩
      · exact trivial
    · split
      · next hq => exact ⟨by omega, hq⟩
      · exact trivial
theorem md2048 {a E : Nat} (h : E < 2047) : (a * 2048 + E) % 2048 = E ∧ (a * 2048 + E) / 2048 = a := by omega
/-- what a whole number becomes -/
theorem fp_int (v : Int32) : ∃ s c q, FP.Core.decode FP.Core.b64 (FP.i2d v).toNat = .fin s c q ∧ (v ≠ 0 → c ≠ 0) := by
  obtain ⟨t1, t2, t3, t4, t5⟩ := fpt
  have hv : v.toInt.natAbs ≤ 2147483648 := by
    have h1 := v.le_toInt
    have h2 := v.toInt_lt
    omega
  have key : ∀ (s : Bool) (E T : Nat), E < 2047 → T < 4503599627370496 → FP.Core.decode FP.Core.b64 ((UInt64.ofNat (FP.Core.assemble FP.Core.b64 s E T)).toNat) = if E = 0 then .fin s T (-1074) else .fin s (4503599627370496 + T) (-1074 + ((E : Int) - 1)) := by
    intro s E T hE hT
    have hs : s.toNat = 0 ∨ s.toNat = 1 := by cases s <;> simp
    have e1 : (UInt64.ofNat (FP.Core.assemble FP.Core.b64 s E T)).toNat = (s.toNat * 2048 + E) * 4503599627370496 + T := by
      unfold FP.Core.assemble
      rw [t1, t2, UInt64.toNat_ofNat']
      rcases hs with hs | hs <;> rw [hs] <;> omega
    rw [e1]
    unfold FP.Core.decode FP.Core.fieldE FP.Core.fieldT FP.Core.fieldS
    rw [t1, t2, t3]
    have f1 : ((s.toNat * 2048 + E) * 4503599627370496 + T) / 4503599627370496 = s.toNat * 2048 + E := by omega
    have f2 : ((s.toNat * 2048 + E) * 4503599627370496 + T) % 4503599627370496 = T := by omega
    have f3 : (s.toNat * 2048 + E) % 2048 = E := (md2048 hE).1
    have f4 : ((s.toNat * 2048 + E) / 2048 % 2 == 1) = s := by
      have : (s.toNat * 2048 + E) / 2048 = s.toNat := (md2048 hE).2
      rw [this]
      cases s <;> rfl
    rw [f1, f2, f3, f4, if_neg (by omega)]
  have e0 : (FP.i2d v) = UInt64.ofNat (FP.Core.encode FP.Core.b64 (FP.Core.roundRatio FP.Core.b64 (decide (v.toInt < 0)) v.toInt.natAbs 1 0)) := rfl
  rw [e0]
  generalize decide (v.toInt < 0) = s
  by_cases c0 : v.toInt.natAbs = 0
  · rw [c0]
    have : FP.Core.encode FP.Core.b64 (FP.Core.roundRatio FP.Core.b64 s 0 1 0) = FP.Core.assemble FP.Core.b64 s 0 0 := by
      unfold FP.Core.roundRatio FP.Core.encode
      rw [if_pos rfl, t1]
      rfl
    rw [this, key s 0 0 (by omega) (by omega)]
    refine ⟨_, _, _, if_pos rfl, fun hv0 => absurd (Int32.toInt.inj (y := 0) ?_) hv0⟩
    have : (0 : Int32).toInt = 0 := by decide
    omega
  · generalize hc : v.toInt.natAbs = c at *
    have l1 : 2 ^ c.log2 ≤ c := Nat.log2_self_le c0
    have l2 : c < 2 ^ (c.log2 + 1) := Nat.lt_log2_self
    have l3 : c.log2 < 32 := (Nat.log2_lt c0).mpr (by omega)
    have hl : FP.Core.leading c 1 = c.log2 := by
      unfold FP.Core.leading
      have : Nat.log2 1 = 0 := by decide
      simp only [this]
      rw [if_pos]
      · omega
      · simp only [Int.natCast_zero, Int.sub_zero, Int.toNat_natCast, Nat.one_mul]
        rw [show (-(c.log2 : Int)).toNat = 0 by omega]
        omega
    have hq : FP.Core.quantum FP.Core.b64 c 1 0 = (c.log2 : Int) - 52 := by
      unfold FP.Core.quantum
      rw [hl, t3]
      show max (-1074) ((c.log2 : Int) + 0 - ((53 : Int) - 1)) = _
      omega
    have hn : FP.Core.nearest (FP.Core.unitsNum c 0 ((c.log2 : Int) - 52)) (FP.Core.unitsDen 1 0 ((c.log2 : Int) - 52)) = c * 2 ^ (52 - c.log2) := by
      unfold FP.Core.unitsNum FP.Core.unitsDen FP.Core.nearest
      rw [show (((c.log2 : Int) - 52) - 0).toNat = 0 by omega, show (0 - ((c.log2 : Int) - 52)).toNat = 52 - c.log2 by omega]
      simp only [Nat.pow_zero, Nat.mul_one, Nat.mod_one, Nat.div_one]
      rw [if_pos (by omega)]
    have n1 : 4503599627370496 ≤ c * 2 ^ (52 - c.log2) := by
      have := Nat.mul_le_mul_right (2 ^ (52 - c.log2)) l1
      rw [← Nat.pow_add, show c.log2 + (52 - c.log2) = 52 by omega] at this
      exact this
    have n2 : c * 2 ^ (52 - c.log2) < 9007199254740992 := by
      have := Nat.mul_lt_mul_of_pos_right l2 (Nat.two_pow_pos (52 - c.log2))
      rw [← Nat.pow_add, show c.log2 + 1 + (52 - c.log2) = 53 by omega] at this
      exact this
    have he : FP.Core.encode FP.Core.b64 (FP.Core.roundRatio FP.Core.b64 s c 1 0) = FP.Core.assemble FP.Core.b64 s (c.log2 + 1023) (c * 2 ^ (52 - c.log2) - 4503599627370496) := by
      unfold FP.Core.roundRatio FP.Core.roundAt
      rw [if_neg c0, hq, hn]
      unfold FP.Core.settle FP.Core.bound
      rw [t4, t5, if_pos n2, if_pos (by omega)]
      unfold FP.Core.encode
      simp only
      rw [t1, t3, if_neg (by omega), show ((c.log2 : Int) - 52 - -1074).toNat + 1 = c.log2 + 1023 by omega]
    rw [he, key s _ _ (by omega) (by omega), if_neg (by omega)]
    exact ⟨_, _, _, rfl, fun _ => by omega⟩
theorem dn_ok {s m : Int32} (h : m ≠ 0) : FP.ddiv (FP.i2d s) (FP.i2d m) &&& 0x7fffffffffffffff ≤ 0x7ff0000000000000 := by
  obtain ⟨s1, c1, q1, h1, -⟩ := fp_int s
  obtain ⟨s2, c2, q2, h2, h3⟩ := fp_int m
  have e0 : FP.ddiv (FP.i2d s) (FP.i2d m) = UInt64.ofNat (FP.Core.encode FP.Core.b64 (FP.Core.quotient FP.Core.b64 (FP.Core.decode FP.Core.b64 (FP.i2d s).toNat) (FP.Core.decode FP.Core.b64 (FP.i2d m).toNat))) := rfl
  have e1 : FP.Core.quotient FP.Core.b64 (.fin s1 c1 q1) (.fin s2 c2 q2) = FP.Core.roundRatio FP.Core.b64 (s1 != s2) c1 c2 (q1 - q2) := by
    simp only [FP.Core.quotient, if_neg (h3 h)]
  have g := fpG_enc (fpG_rr (s := s1 != s2) (n := c1) (d := c2) (e := q1 - q2))
  rw [e0, h1, h2, e1, UInt64.le_iff_toNat_le, UInt64.toNat_and, UInt64.toNat_ofNat']
  have k1 : (0x7fffffffffffffff : UInt64).toNat = 2 ^ 63 - 1 := by decide
  have k2 : (0x7ff0000000000000 : UInt64).toNat = 9218868437227405312 := by decide
  rw [k1, k2, Nat.and_two_pow_sub_one_eq_mod]
  omega
