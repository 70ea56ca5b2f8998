set_option maxRecDepth 100000
abbrev cX14_of : ByteArray := prog_17_method_2_code
def yX14_of : MethodName := ⟨RX14, "of", "(LSofaDig$Sofa;)I"⟩
theorem dX14_of_0 : decode cX14_of 0 = .ok (.aload_n 0, 1) := by decide +kernel
theorem dX14_of_1 : decode cX14_of 1 = .ok (.getfield 7, 3) := by decide +kernel
theorem dX14_of_4 : decode cX14_of 4 = .ok (.ireturn, 1) := by decide +kernel
abbrev cX15_of : ByteArray := prog_2_method_2_code
def yX15_of : MethodName := ⟨RX15, "of", "(LSofaDig$Sofa;)I"⟩
def dkwX15_of_0 : List UInt8 := [42, 180, 0, 7, 43, 42, 180, 0, 13, 182, 0, 17, 172]
abbrev dktX15_of_0 : List UInt8 := dkwX15_of_0 ++ []
theorem dksX15_of_0 : cX15_of.data.toList.drop 0 = dktX15_of_0 := by decide +kernel
theorem dX15_of_0 : decode cX15_of 0 = .ok (.aload_n 0, 1) := dk_42 (dk_at dksX15_of_0 0 rfl rfl)
theorem dX15_of_1 : decode cX15_of 1 = .ok (.getfield 7, 3) := dk_180 0 7 (dk_at dksX15_of_0 1 rfl rfl)
theorem dX15_of_4 : decode cX15_of 4 = .ok (.aload_n 1, 1) := dk_43 (dk_at dksX15_of_0 4 rfl rfl)
theorem dX15_of_5 : decode cX15_of 5 = .ok (.aload_n 0, 1) := dk_42 (dk_at dksX15_of_0 5 rfl rfl)
theorem dX15_of_6 : decode cX15_of 6 = .ok (.getfield 13, 3) := dk_180 0 13 (dk_at dksX15_of_0 6 rfl rfl)
theorem dX15_of_9 : decode cX15_of 9 = .ok (.invokevirtual 17, 3) := dk_182 0 17 (dk_at dksX15_of_0 9 rfl rfl)
theorem dX15_of_12 : decode cX15_of 12 = .ok (.ireturn, 1) := dk_172 (dk_at dksX15_of_0 12 rfl rfl)
abbrev cX16_of : ByteArray := prog_13_method_2_code
def yX16_of : MethodName := ⟨RX16, "of", "(LSofaDig$Sofa;)I"⟩
def dkwX16_of_0 : List UInt8 := [43, 43, 42, 180, 0, 7, 182, 0, 13, 182, 0, 19, 172]
abbrev dktX16_of_0 : List UInt8 := dkwX16_of_0 ++ []
theorem dksX16_of_0 : cX16_of.data.toList.drop 0 = dktX16_of_0 := by decide +kernel
theorem dX16_of_0 : decode cX16_of 0 = .ok (.aload_n 1, 1) := dk_43 (dk_at dksX16_of_0 0 rfl rfl)
theorem dX16_of_1 : decode cX16_of 1 = .ok (.aload_n 1, 1) := dk_43 (dk_at dksX16_of_0 1 rfl rfl)
theorem dX16_of_2 : decode cX16_of 2 = .ok (.aload_n 0, 1) := dk_42 (dk_at dksX16_of_0 2 rfl rfl)
theorem dX16_of_3 : decode cX16_of 3 = .ok (.getfield 7, 3) := dk_180 0 7 (dk_at dksX16_of_0 3 rfl rfl)
theorem dX16_of_6 : decode cX16_of 6 = .ok (.invokevirtual 13, 3) := dk_182 0 13 (dk_at dksX16_of_0 6 rfl rfl)
theorem dX16_of_9 : decode cX16_of 9 = .ok (.invokevirtual 19, 3) := dk_182 0 19 (dk_at dksX16_of_0 9 rfl rfl)
theorem dX16_of_12 : decode cX16_of 12 = .ok (.ireturn, 1) := dk_172 (dk_at dksX16_of_0 12 rfl rfl)
abbrev cX17_of : ByteArray := prog_37_method_2_code
def yX17_of : MethodName := ⟨RX17, "of", "(LSofaDig$Sofa;)I"⟩
def dkwX17_of_0 : List UInt8 := [42, 180, 0, 7, 43, 182, 0, 13, 116, 172]
abbrev dktX17_of_0 : List UInt8 := dkwX17_of_0 ++ []
theorem dksX17_of_0 : cX17_of.data.toList.drop 0 = dktX17_of_0 := by decide +kernel
theorem dX17_of_0 : decode cX17_of 0 = .ok (.aload_n 0, 1) := dk_42 (dk_at dksX17_of_0 0 rfl rfl)
theorem dX17_of_1 : decode cX17_of 1 = .ok (.getfield 7, 3) := dk_180 0 7 (dk_at dksX17_of_0 1 rfl rfl)
theorem dX17_of_4 : decode cX17_of 4 = .ok (.aload_n 1, 1) := dk_43 (dk_at dksX17_of_0 4 rfl rfl)
theorem dX17_of_5 : decode cX17_of 5 = .ok (.invokevirtual 13, 3) := dk_182 0 13 (dk_at dksX17_of_0 5 rfl rfl)
theorem dX17_of_8 : decode cX17_of 8 = .ok (.ineg, 1) := dk_116 (dk_at dksX17_of_0 8 rfl rfl)
theorem dX17_of_9 : decode cX17_of 9 = .ok (.ireturn, 1) := dk_172 (dk_at dksX17_of_0 9 rfl rfl)
abbrev cX18_of : ByteArray := prog_14_method_2_code
def yX18_of : MethodName := ⟨RX18, "of", "(LSofaDig$Sofa;)I"⟩
def dkwX18_of_0 : List UInt8 := [42, 180, 0, 7, 42, 180, 0, 13, 43, 182, 0, 20, 42, 180, 0, 17, 43, 182, 0, 20, 182, 0, 24, 172]
abbrev dktX18_of_0 : List UInt8 := dkwX18_of_0 ++ []
theorem dksX18_of_0 : cX18_of.data.toList.drop 0 = dktX18_of_0 := by decide +kernel
theorem dX18_of_0 : decode cX18_of 0 = .ok (.aload_n 0, 1) := dk_42 (dk_at dksX18_of_0 0 rfl rfl)
theorem dX18_of_1 : decode cX18_of 1 = .ok (.getfield 7, 3) := dk_180 0 7 (dk_at dksX18_of_0 1 rfl rfl)
theorem dX18_of_4 : decode cX18_of 4 = .ok (.aload_n 0, 1) := dk_42 (dk_at dksX18_of_0 4 rfl rfl)
theorem dX18_of_5 : decode cX18_of 5 = .ok (.getfield 13, 3) := dk_180 0 13 (dk_at dksX18_of_0 5 rfl rfl)
theorem dX18_of_8 : decode cX18_of 8 = .ok (.aload_n 1, 1) := dk_43 (dk_at dksX18_of_0 8 rfl rfl)
theorem dX18_of_9 : decode cX18_of 9 = .ok (.invokevirtual 20, 3) := dk_182 0 20 (dk_at dksX18_of_0 9 rfl rfl)
theorem dX18_of_12 : decode cX18_of 12 = .ok (.aload_n 0, 1) := dk_42 (dk_at dksX18_of_0 12 rfl rfl)
theorem dX18_of_13 : decode cX18_of 13 = .ok (.getfield 17, 3) := dk_180 0 17 (dk_at dksX18_of_0 13 rfl rfl)
theorem dX18_of_16 : decode cX18_of 16 = .ok (.aload_n 1, 1) := dk_43 (dk_at dksX18_of_0 16 rfl rfl)
theorem dX18_of_17 : decode cX18_of 17 = .ok (.invokevirtual 20, 3) := dk_182 0 20 (dk_at dksX18_of_0 17 rfl rfl)
theorem dX18_of_20 : decode cX18_of 20 = .ok (.invokevirtual 24, 3) := dk_182 0 24 (dk_at dksX18_of_0 20 rfl rfl)
theorem dX18_of_23 : decode cX18_of 23 = .ok (.ireturn, 1) := dk_172 (dk_at dksX18_of_0 23 rfl rfl)
abbrev cX3_told : ByteArray := prog_29_method_5_code
def yX3_told : MethodName := ⟨RX3, "told", "(LSofaDig$Sum;)I"⟩
def dkwX3_told_1 : List UInt8 := [28, 172]
abbrev dktX3_told_1 : List UInt8 := dkwX3_told_1 ++ []
def dkwX3_told_0 : List UInt8 := [43, 42, 182, 0, 62, 42, 180, 0, 15, 112, 61, 28, 156, 0, 12, 28, 42, 180, 0, 15, 96, 167, 0, 4]
abbrev dktX3_told_0 : List UInt8 := dkwX3_told_0 ++ dktX3_told_1
theorem dksX3_told_0 : cX3_told.data.toList.drop 0 = dktX3_told_0 := by decide +kernel
theorem dksX3_told_1 : cX3_told.data.toList.drop 24 = dktX3_told_1 := dk_seg dksX3_told_0 24 rfl rfl
theorem dX3_told_0 : decode cX3_told 0 = .ok (.aload_n 1, 1) := dk_43 (dk_at dksX3_told_0 0 rfl rfl)
theorem dX3_told_1 : decode cX3_told 1 = .ok (.aload_n 0, 1) := dk_42 (dk_at dksX3_told_0 1 rfl rfl)
theorem dX3_told_2 : decode cX3_told 2 = .ok (.invokevirtual 62, 3) := dk_182 0 62 (dk_at dksX3_told_0 2 rfl rfl)
theorem dX3_told_5 : decode cX3_told 5 = .ok (.aload_n 0, 1) := dk_42 (dk_at dksX3_told_0 5 rfl rfl)
theorem dX3_told_6 : decode cX3_told 6 = .ok (.getfield 15, 3) := dk_180 0 15 (dk_at dksX3_told_0 6 rfl rfl)
theorem dX3_told_9 : decode cX3_told 9 = .ok (.irem, 1) := dk_112 (dk_at dksX3_told_0 9 rfl rfl)
theorem dX3_told_10 : decode cX3_told 10 = .ok (.istore_n 2, 1) := dk_61 (dk_at dksX3_told_0 10 rfl rfl)
theorem dX3_told_11 : decode cX3_told 11 = .ok (.iload_n 2, 1) := dk_28 (dk_at dksX3_told_0 11 rfl rfl)
theorem dX3_told_12 : decode cX3_told 12 = .ok (.ifCond .ge 12, 3) := dk_156 0 12 (dk_at dksX3_told_0 12 rfl rfl)
theorem dX3_told_15 : decode cX3_told 15 = .ok (.iload_n 2, 1) := dk_28 (dk_at dksX3_told_0 15 rfl rfl)
theorem dX3_told_16 : decode cX3_told 16 = .ok (.aload_n 0, 1) := dk_42 (dk_at dksX3_told_0 16 rfl rfl)
theorem dX3_told_17 : decode cX3_told 17 = .ok (.getfield 15, 3) := dk_180 0 15 (dk_at dksX3_told_0 17 rfl rfl)
theorem dX3_told_20 : decode cX3_told 20 = .ok (.iadd, 1) := dk_96 (dk_at dksX3_told_0 20 rfl rfl)
theorem dX3_told_21 : decode cX3_told 21 = .ok (.goto 4, 3) := dk_167 0 4 (dk_at dksX3_told_0 21 rfl rfl)
theorem dX3_told_24 : decode cX3_told 24 = .ok (.iload_n 2, 1) := dk_28 (dk_at dksX3_told_1 0 rfl rfl)
theorem dX3_told_25 : decode cX3_told 25 = .ok (.ireturn, 1) := dk_172 (dk_at dksX3_told_1 1 rfl rfl)
abbrev mX14_of : sd_Y := (yX14_of, cX14_of, 2, some (.int), none)
abbrev mX15_of : sd_Y := (yX15_of, cX15_of, 2, some (.int), none)
abbrev mX16_of : sd_Y := (yX16_of, cX16_of, 2, some (.int), none)
abbrev mX17_of : sd_Y := (yX17_of, cX17_of, 2, some (.int), none)
abbrev mX18_of : sd_Y := (yX18_of, cX18_of, 2, some (.int), none)
abbrev mX3_told : sd_Y := (yX3_told, cX3_told, 3, some (.int), none)
abbrev TRS : Type := (Nat → Nat → sd_M Int32) × (Nat → Nat → sd_M Int32) × (Nat → Nat → sd_M Int32) × (Nat → Nat → sd_M Int32) × (Nat → Nat → sd_M Int32) × (Nat → Nat → sd_M Int32)
def HRS (l : Launch) (G : sd_G) (d : Nat) (R : TRS) : Prop := (∀ (a0 : Nat) (a1 : Nat) (h : sd_H) (ρ : Int32) (cT : Nat × Nat) (h2 : sd_H), R.1 a0 a1 h = some (ρ, cT, h2) → sd_Met mX14_of ((l, G), (d + 12, 30 * d + 400), [.ref a0, .ref a1], (sd_oI ρ, h2), cT) h) ∧
  (∀ (a0 : Nat) (a1 : Nat) (h : sd_H) (ρ : Int32) (cT : Nat × Nat) (h2 : sd_H), R.2.1 a0 a1 h = some (ρ, cT, h2) → sd_Met mX15_of ((l, G), (d + 12, 30 * d + 400), [.ref a0, .ref a1], (sd_oI ρ, h2), cT) h) ∧
  (∀ (a0 : Nat) (a1 : Nat) (h : sd_H) (ρ : Int32) (cT : Nat × Nat) (h2 : sd_H), R.2.2.1 a0 a1 h = some (ρ, cT, h2) → sd_Met mX16_of ((l, G), (d + 12, 30 * d + 400), [.ref a0, .ref a1], (sd_oI ρ, h2), cT) h) ∧
  (∀ (a0 : Nat) (a1 : Nat) (h : sd_H) (ρ : Int32) (cT : Nat × Nat) (h2 : sd_H), R.2.2.2.1 a0 a1 h = some (ρ, cT, h2) → sd_Met mX17_of ((l, G), (d + 12, 30 * d + 400), [.ref a0, .ref a1], (sd_oI ρ, h2), cT) h) ∧
  (∀ (a0 : Nat) (a1 : Nat) (h : sd_H) (ρ : Int32) (cT : Nat × Nat) (h2 : sd_H), R.2.2.2.2.1 a0 a1 h = some (ρ, cT, h2) → sd_Met mX18_of ((l, G), (d + 12, 30 * d + 400), [.ref a0, .ref a1], (sd_oI ρ, h2), cT) h) ∧
  (∀ (a0 : Nat) (a1 : Nat) (h : sd_H) (ρ : Int32) (cT : Nat × Nat) (h2 : sd_H), R.2.2.2.2.2 a0 a1 h = some (ρ, cT, h2) → sd_Met mX3_told ((l, G), (d + 12, 30 * d + 400), [.ref a0, .ref a1], (sd_oI ρ, h2), cT) h)
theorem q163 : (Jvm.Cond.initialized "SofaDig$Plain") ∈ lw_all := lw_g (lw_at lw_m1 48 rfl) rfl
theorem q165 : (Jvm.Cond.initialized "SofaDig$Asked") ∈ lw_all := lw_g (lw_at lw_m1 50 rfl) rfl
theorem q167 : (Jvm.Cond.initialized "SofaDig$Height") ∈ lw_all := lw_g (lw_at lw_m1 52 rfl) rfl
theorem q168 : (Jvm.Cond.initialized "SofaDig$Turned") ∈ lw_all := lw_g (lw_at lw_m1 53 rfl) rfl
theorem q170 : (Jvm.Cond.initialized "SofaDig$Joined") ∈ lw_all := lw_g (lw_at lw_m1 55 rfl) rfl
theorem q2602 : (Jvm.Cond.declares ({ cls := "SofaDig$Sum", name := "of", desc := "(LSofaDig$Sofa;)I" } : Jvm.MethodName)) ∈ lw_tbl := lw_at lw_m11 87 rfl
theorem q2603 : (Jvm.Cond.sameMethod "SofaDig$Sum" "SofaDig$Sum" "of" "(LSofaDig$Sofa;)I") ∈ lw_all := lw_g (lw_at lw_m11 88 rfl) rfl
theorem q2604 : (Jvm.Cond.selects "SofaDig$Asked" ({ cls := "SofaDig$Sum", name := "of", desc := "(LSofaDig$Sofa;)I" } : Jvm.MethodName) ({ cls := "SofaDig$Asked", name := "of", desc := "(LSofaDig$Sofa;)I" } : Jvm.MethodName)) ∈ lw_all := lw_g (lw_at lw_m11 89 rfl) rfl
theorem q2605 : (Jvm.Cond.instanceMethod ({ cls := "SofaDig$Asked", name := "of", desc := "(LSofaDig$Sofa;)I" } : Jvm.MethodName)) ∈ lw_all := lw_g (lw_at lw_m11 90 rfl) rfl
theorem q2606 : (Jvm.Cond.code ({ cls := "SofaDig$Asked", name := "of", desc := "(LSofaDig$Sofa;)I" } : Jvm.MethodName) prog_2_method_2_code (2 : Nat) (Option.some Jvm.ClassFile.FieldType.int)) ∈ lw_all := lw_g (lw_at lw_m11 91 rfl) rfl
theorem q2607 : (Jvm.Cond.methodLink "SofaDig$Asked" (17 : Nat) ({ cls := "SofaDig$What", name := "of", desc := "(LSofaDig$Sofa;I)I" } : Jvm.MethodName)) ∈ lw_all := lw_g (lw_at lw_m11 92 rfl) rfl
theorem q2608 : (Jvm.Cond.declares ({ cls := "SofaDig$What", name := "of", desc := "(LSofaDig$Sofa;I)I" } : Jvm.MethodName)) ∈ lw_tbl := lw_at lw_m11 93 rfl
theorem q2609 : (Jvm.Cond.sameMethod "SofaDig$What" "SofaDig$What" "of" "(LSofaDig$Sofa;I)I") ∈ lw_all := lw_g (lw_at lw_m11 94 rfl) rfl
theorem q2610 : (Jvm.Cond.selects "SofaDig$What$1" ({ cls := "SofaDig$What", name := "of", desc := "(LSofaDig$Sofa;I)I" } : Jvm.MethodName) ({ cls := "SofaDig$What$1", name := "of", desc := "(LSofaDig$Sofa;I)I" } : Jvm.MethodName)) ∈ lw_all := lw_g (lw_at lw_m11 95 rfl) rfl
theorem q2611 : (Jvm.Cond.instanceMethod ({ cls := "SofaDig$What$1", name := "of", desc := "(LSofaDig$Sofa;I)I" } : Jvm.MethodName)) ∈ lw_all := lw_g (lw_at lw_m11 96 rfl) rfl
theorem q2613 : (Jvm.Cond.selects "SofaDig$What$2" ({ cls := "SofaDig$What", name := "of", desc := "(LSofaDig$Sofa;I)I" } : Jvm.MethodName) ({ cls := "SofaDig$What$2", name := "of", desc := "(LSofaDig$Sofa;I)I" } : Jvm.MethodName)) ∈ lw_all := lw_g (lw_at lw_m11 98 rfl) rfl
theorem q2614 : (Jvm.Cond.instanceMethod ({ cls := "SofaDig$What$2", name := "of", desc := "(LSofaDig$Sofa;I)I" } : Jvm.MethodName)) ∈ lw_all := lw_g (lw_at lw_m11 99 rfl) rfl
theorem q2617 : (Jvm.Cond.selects "SofaDig$What$3" ({ cls := "SofaDig$What", name := "of", desc := "(LSofaDig$Sofa;I)I" } : Jvm.MethodName) ({ cls := "SofaDig$What$3", name := "of", desc := "(LSofaDig$Sofa;I)I" } : Jvm.MethodName)) ∈ lw_all := lw_g (lw_at lw_m11 102 rfl) rfl
theorem q2618 : (Jvm.Cond.instanceMethod ({ cls := "SofaDig$What$3", name := "of", desc := "(LSofaDig$Sofa;I)I" } : Jvm.MethodName)) ∈ lw_all := lw_g (lw_at lw_m11 103 rfl) rfl
theorem q2620 : (Jvm.Cond.selects "SofaDig$What$4" ({ cls := "SofaDig$What", name := "of", desc := "(LSofaDig$Sofa;I)I" } : Jvm.MethodName) ({ cls := "SofaDig$What$4", name := "of", desc := "(LSofaDig$Sofa;I)I" } : Jvm.MethodName)) ∈ lw_all := lw_g (lw_at lw_m11 105 rfl) rfl
theorem q2621 : (Jvm.Cond.instanceMethod ({ cls := "SofaDig$What$4", name := "of", desc := "(LSofaDig$Sofa;I)I" } : Jvm.MethodName)) ∈ lw_all := lw_g (lw_at lw_m11 106 rfl) rfl
theorem q2624 : (Jvm.Cond.selects "SofaDig$What$5" ({ cls := "SofaDig$What", name := "of", desc := "(LSofaDig$Sofa;I)I" } : Jvm.MethodName) ({ cls := "SofaDig$What$5", name := "of", desc := "(LSofaDig$Sofa;I)I" } : Jvm.MethodName)) ∈ lw_all := lw_g (lw_at lw_m11 109 rfl) rfl
theorem q2625 : (Jvm.Cond.instanceMethod ({ cls := "SofaDig$What$5", name := "of", desc := "(LSofaDig$Sofa;I)I" } : Jvm.MethodName)) ∈ lw_all := lw_g (lw_at lw_m11 110 rfl) rfl
theorem q2629 : (Jvm.Cond.selects "SofaDig$What$6" ({ cls := "SofaDig$What", name := "of", desc := "(LSofaDig$Sofa;I)I" } : Jvm.MethodName) ({ cls := "SofaDig$What$6", name := "of", desc := "(LSofaDig$Sofa;I)I" } : Jvm.MethodName)) ∈ lw_all := lw_g (lw_at lw_m11 114 rfl) rfl
theorem q2630 : (Jvm.Cond.instanceMethod ({ cls := "SofaDig$What$6", name := "of", desc := "(LSofaDig$Sofa;I)I" } : Jvm.MethodName)) ∈ lw_all := lw_g (lw_at lw_m11 115 rfl) rfl
theorem q2634 : (Jvm.Cond.selects "SofaDig$Height" ({ cls := "SofaDig$Sum", name := "of", desc := "(LSofaDig$Sofa;)I" } : Jvm.MethodName) ({ cls := "SofaDig$Height", name := "of", desc := "(LSofaDig$Sofa;)I" } : Jvm.MethodName)) ∈ lw_all := lw_g (lw_at lw_m11 119 rfl) rfl
theorem q2635 : (Jvm.Cond.instanceMethod ({ cls := "SofaDig$Height", name := "of", desc := "(LSofaDig$Sofa;)I" } : Jvm.MethodName)) ∈ lw_all := lw_g (lw_at lw_m11 120 rfl) rfl
theorem q2636 : (Jvm.Cond.code ({ cls := "SofaDig$Height", name := "of", desc := "(LSofaDig$Sofa;)I" } : Jvm.MethodName) prog_13_method_2_code (2 : Nat) (Option.some Jvm.ClassFile.FieldType.int)) ∈ lw_all := lw_g (lw_at lw_m11 121 rfl) rfl
theorem q2637 : (Jvm.Cond.methodLink "SofaDig$Height" (13 : Nat) ({ cls := "SofaDig$Sofa", name := "told", desc := "(LSofaDig$Sum;)I" } : Jvm.MethodName)) ∈ lw_all := lw_g (lw_at lw_m11 122 rfl) rfl
theorem q2638 : (Jvm.Cond.instanceMethod ({ cls := "SofaDig$Sofa", name := "told", desc := "(LSofaDig$Sum;)I" } : Jvm.MethodName)) ∈ lw_all := lw_g (lw_at lw_m11 123 rfl) rfl
theorem q2639 : (Jvm.Cond.selects "SofaDig$Sofa" ({ cls := "SofaDig$Sofa", name := "told", desc := "(LSofaDig$Sum;)I" } : Jvm.MethodName) ({ cls := "SofaDig$Sofa", name := "told", desc := "(LSofaDig$Sum;)I" } : Jvm.MethodName)) ∈ lw_all := lw_g (lw_at lw_m11 124 rfl) rfl
theorem q2640 : (Jvm.Cond.code ({ cls := "SofaDig$Sofa", name := "told", desc := "(LSofaDig$Sum;)I" } : Jvm.MethodName) prog_29_method_5_code (3 : Nat) (Option.some Jvm.ClassFile.FieldType.int)) ∈ lw_all := lw_g (lw_at lw_m11 125 rfl) rfl
theorem q2641 : (Jvm.Cond.methodLink "SofaDig$Sofa" (62 : Nat) ({ cls := "SofaDig$Sum", name := "of", desc := "(LSofaDig$Sofa;)I" } : Jvm.MethodName)) ∈ lw_all := lw_g (lw_at lw_m11 126 rfl) rfl
theorem q2642 : (Jvm.Cond.instanceMethod ({ cls := "SofaDig$Joined", name := "of", desc := "(LSofaDig$Sofa;)I" } : Jvm.MethodName)) ∈ lw_all := lw_g (lw_at lw_m11 127 rfl) rfl
theorem q2643 : (Jvm.Cond.code ({ cls := "SofaDig$Joined", name := "of", desc := "(LSofaDig$Sofa;)I" } : Jvm.MethodName) prog_14_method_2_code (2 : Nat) (Option.some Jvm.ClassFile.FieldType.int)) ∈ lw_all := lw_g (lw_at lw_m11 128 rfl) rfl
theorem q2644 : (Jvm.Cond.methodLink "SofaDig$Joined" (20 : Nat) ({ cls := "SofaDig$Sum", name := "of", desc := "(LSofaDig$Sofa;)I" } : Jvm.MethodName)) ∈ lw_all := lw_g (lw_at lw_m11 129 rfl) rfl
theorem q2645 : (Jvm.Cond.instanceMethod ({ cls := "SofaDig$Plain", name := "of", desc := "(LSofaDig$Sofa;)I" } : Jvm.MethodName)) ∈ lw_all := lw_g (lw_at lw_m11 130 rfl) rfl
theorem q2646 : (Jvm.Cond.code ({ cls := "SofaDig$Plain", name := "of", desc := "(LSofaDig$Sofa;)I" } : Jvm.MethodName) prog_17_method_2_code (2 : Nat) (Option.some Jvm.ClassFile.FieldType.int)) ∈ lw_all := lw_g (lw_at lw_m11 131 rfl) rfl
theorem q2647 : (Jvm.Cond.instanceMethod ({ cls := "SofaDig$Turned", name := "of", desc := "(LSofaDig$Sofa;)I" } : Jvm.MethodName)) ∈ lw_all := lw_g (lw_at lw_m11 132 rfl) rfl
theorem q2648 : (Jvm.Cond.code ({ cls := "SofaDig$Turned", name := "of", desc := "(LSofaDig$Sofa;)I" } : Jvm.MethodName) prog_37_method_2_code (2 : Nat) (Option.some Jvm.ClassFile.FieldType.int)) ∈ lw_all := lw_g (lw_at lw_m11 133 rfl) rfl
theorem q2649 : (Jvm.Cond.methodLink "SofaDig$Turned" (13 : Nat) ({ cls := "SofaDig$Sum", name := "of", desc := "(LSofaDig$Sofa;)I" } : Jvm.MethodName)) ∈ lw_all := lw_g (lw_at lw_m11 134 rfl) rfl
theorem q2650 : (Jvm.Cond.methodLink "SofaDig$Joined" (24 : Nat) ({ cls := "SofaDig$Sign", name := "join", desc := "(II)I" } : Jvm.MethodName)) ∈ lw_all := lw_g (lw_at lw_m11 135 rfl) rfl
theorem q2651 : (Jvm.Cond.declares ({ cls := "SofaDig$Sign", name := "join", desc := "(II)I" } : Jvm.MethodName)) ∈ lw_tbl := lw_at lw_m11 136 rfl
theorem q2652 : (Jvm.Cond.sameMethod "SofaDig$Sign" "SofaDig$Sign" "join" "(II)I") ∈ lw_all := lw_g (lw_at lw_m11 137 rfl) rfl
theorem q2653 : (Jvm.Cond.selects "SofaDig$Sign$1" ({ cls := "SofaDig$Sign", name := "join", desc := "(II)I" } : Jvm.MethodName) ({ cls := "SofaDig$Sign$1", name := "join", desc := "(II)I" } : Jvm.MethodName)) ∈ lw_all := lw_g (lw_at lw_m11 138 rfl) rfl
theorem q2654 : (Jvm.Cond.instanceMethod ({ cls := "SofaDig$Sign$1", name := "join", desc := "(II)I" } : Jvm.MethodName)) ∈ lw_all := lw_g (lw_at lw_m11 139 rfl) rfl
theorem q2656 : (Jvm.Cond.selects "SofaDig$Sign$2" ({ cls := "SofaDig$Sign", name := "join", desc := "(II)I" } : Jvm.MethodName) ({ cls := "SofaDig$Sign$2", name := "join", desc := "(II)I" } : Jvm.MethodName)) ∈ lw_all := lw_g (lw_at lw_m11 141 rfl) rfl
theorem q2657 : (Jvm.Cond.instanceMethod ({ cls := "SofaDig$Sign$2", name := "join", desc := "(II)I" } : Jvm.MethodName)) ∈ lw_all := lw_g (lw_at lw_m11 142 rfl) rfl
theorem q2659 : (Jvm.Cond.selects "SofaDig$Sign$3" ({ cls := "SofaDig$Sign", name := "join", desc := "(II)I" } : Jvm.MethodName) ({ cls := "SofaDig$Sign$3", name := "join", desc := "(II)I" } : Jvm.MethodName)) ∈ lw_all := lw_g (lw_at lw_m11 144 rfl) rfl
theorem q2660 : (Jvm.Cond.instanceMethod ({ cls := "SofaDig$Sign$3", name := "join", desc := "(II)I" } : Jvm.MethodName)) ∈ lw_all := lw_g (lw_at lw_m11 145 rfl) rfl
theorem q2662 : (Jvm.Cond.selects "SofaDig$Sign$4" ({ cls := "SofaDig$Sign", name := "join", desc := "(II)I" } : Jvm.MethodName) ({ cls := "SofaDig$Sign$4", name := "join", desc := "(II)I" } : Jvm.MethodName)) ∈ lw_all := lw_g (lw_at lw_m11 147 rfl) rfl
theorem q2663 : (Jvm.Cond.instanceMethod ({ cls := "SofaDig$Sign$4", name := "join", desc := "(II)I" } : Jvm.MethodName)) ∈ lw_all := lw_g (lw_at lw_m11 148 rfl) rfl
theorem q2665 : (Jvm.Cond.selects "SofaDig$Sign$5" ({ cls := "SofaDig$Sign", name := "join", desc := "(II)I" } : Jvm.MethodName) ({ cls := "SofaDig$Sign$5", name := "join", desc := "(II)I" } : Jvm.MethodName)) ∈ lw_all := lw_g (lw_at lw_m11 150 rfl) rfl
theorem q2666 : (Jvm.Cond.instanceMethod ({ cls := "SofaDig$Sign$5", name := "join", desc := "(II)I" } : Jvm.MethodName)) ∈ lw_all := lw_g (lw_at lw_m11 151 rfl) rfl
theorem q2669 : (Jvm.Cond.selects "SofaDig$Sign$6" ({ cls := "SofaDig$Sign", name := "join", desc := "(II)I" } : Jvm.MethodName) ({ cls := "SofaDig$Sign$6", name := "join", desc := "(II)I" } : Jvm.MethodName)) ∈ lw_all := lw_g (lw_at lw_m11 154 rfl) rfl
theorem q2670 : (Jvm.Cond.instanceMethod ({ cls := "SofaDig$Sign$6", name := "join", desc := "(II)I" } : Jvm.MethodName)) ∈ lw_all := lw_g (lw_at lw_m11 155 rfl) rfl
theorem q2673 : (Jvm.Cond.methodLink "SofaDig$Height" (19 : Nat) ({ cls := "SofaDig$Sofa", name := "height", desc := "(I)I" } : Jvm.MethodName)) ∈ lw_all := lw_g (lw_at lw_m11 158 rfl) rfl
theorem q2674 : (Jvm.Cond.selects "SofaDig$Joined" ({ cls := "SofaDig$Sum", name := "of", desc := "(LSofaDig$Sofa;)I" } : Jvm.MethodName) ({ cls := "SofaDig$Joined", name := "of", desc := "(LSofaDig$Sofa;)I" } : Jvm.MethodName)) ∈ lw_all := lw_g (lw_at lw_m11 159 rfl) rfl
theorem q2675 : (Jvm.Cond.selects "SofaDig$Plain" ({ cls := "SofaDig$Sum", name := "of", desc := "(LSofaDig$Sofa;)I" } : Jvm.MethodName) ({ cls := "SofaDig$Plain", name := "of", desc := "(LSofaDig$Sofa;)I" } : Jvm.MethodName)) ∈ lw_all := lw_g (lw_at lw_m11 160 rfl) rfl
theorem q2676 : (Jvm.Cond.selects "SofaDig$Turned" ({ cls := "SofaDig$Sum", name := "of", desc := "(LSofaDig$Sofa;)I" } : Jvm.MethodName) ({ cls := "SofaDig$Turned", name := "of", desc := "(LSofaDig$Sofa;)I" } : Jvm.MethodName)) ∈ lw_all := lw_g (lw_at lw_m11 161 rfl) rfl
/-! SofaDig$Plain.of(LSofaDig$Sofa;)I -/
theorem fdX14_7_12 : sd_Fd "SofaDig$Plain" 7 12 0 := ⟨(RX14, TX14, 1), "SofaDig$Plain", rfl, by decide, rfl, in_X14, Or.inl rfl, Or.inl q1885⟩
def fX14_of (G : sd_G) (R : TRS) (a0 : Nat) (a1 : Nat) : sd_M Int32 :=
  sd_bnd (sd_getI G 12 0 a0) fun v1 =>
  sd_ret v1
set_option maxHeartbeats 4000000 in
theorem sX14_of (l : Launch) (G : sd_G) (d : Nat) (R : TRS) (HR : HRS l G d R) (a0 : Nat) (a1 : Nat) (h : sd_H) (ρ : Int32) (cT : Nat × Nat) (h2 : sd_H) (hf : fX14_of G R a0 a1 h = some (ρ, cT, h2)) : sd_Met mX14_of ((l, G), (d + 1 + 12, 30 * (d + 1) + 400), [.ref a0, .ref a1], (sd_oI ρ, h2), cT) h := by
  refine sd_entry (plainFor_of_name rfl) rfl (Nat.le_of_ble_eq_true rfl) ?_
  show sd_J mX14_of ((l, G), (d + 1 + 12, 30 * (d + 1) + 400), [.ref a0, .ref a1], (sd_oI ρ, h2), cT) 0 [(0, .ref a0), (1, .ref a1)] [] h cT
  unfold fX14_of at hf
  refine sj_aload_n 0 dX14_of_0 rfl ?_
  refine sj_getI fdX14_7_12 hf dX14_of_1 (fun v1 hf => ?_)
  exact sj_iret (o := sd_oI) hf rfl rfl rfl dX14_of_4
/-! SofaDig$Asked.of(LSofaDig$Sofa;)I -/
theorem fdX15_7_13 : sd_Fd "SofaDig$Asked" 7 13 0 := ⟨(RX15, TX15, 2), "SofaDig$Asked", rfl, by decide, rfl, in_X15, Or.inl rfl, Or.inl q1903⟩
theorem fdX15_13_13 : sd_Fd "SofaDig$Asked" 13 13 1 := ⟨(RX15, TX15, 2), "SofaDig$Asked", rfl, by decide, rfl, in_X15, Or.inl rfl, Or.inl q1904⟩
def fX15_of (G : sd_G) (R : TRS) (a0 : Nat) (a1 : Nat) : sd_M Int32 :=
  sd_bnd (sd_getR G 13 0 a0) fun v1 =>
  sd_bnd (sd_getI G 13 1 a0) fun v2 =>
  sd_bnd (sd_bnd (sd_cls G v1) fun k9 => if k9 = 24 then fX29_of G v1 a1 v2 else if k9 = 25 then fX40_of G v1 a1 v2 else if k9 = 26 then fX30_of G v1 a1 v2 else if k9 = 27 then fX41_of G v1 a1 v2 else if k9 = 28 then fX27_of G v1 a1 v2 else if k9 = 29 then fX28_of G v1 a1 v2 else sd_fail) fun r3 =>
  sd_ret r3
set_option maxHeartbeats 4000000 in
theorem sX15_of (l : Launch) (G : sd_G) (d : Nat) (R : TRS) (HR : HRS l G d R) (a0 : Nat) (a1 : Nat) (h : sd_H) (ρ : Int32) (cT : Nat × Nat) (h2 : sd_H) (hf : fX15_of G R a0 a1 h = some (ρ, cT, h2)) : sd_Met mX15_of ((l, G), (d + 1 + 12, 30 * (d + 1) + 400), [.ref a0, .ref a1], (sd_oI ρ, h2), cT) h := by
  refine sd_entry (plainFor_of_name rfl) rfl (Nat.le_of_ble_eq_true rfl) ?_
  show sd_J mX15_of ((l, G), (d + 1 + 12, 30 * (d + 1) + 400), [.ref a0, .ref a1], (sd_oI ρ, h2), cT) 0 [(0, .ref a0), (1, .ref a1)] [] h cT
  unfold fX15_of at hf
  refine sj_aload_n 0 dX15_of_0 rfl ?_
  refine sj_getR fdX15_7_13 hf dX15_of_1 (fun v1 hf => ?_)
  refine sj_aload_n 1 dX15_of_4 rfl ?_
  refine sj_aload_n 0 dX15_of_5 rfl ?_
  refine sj_getI fdX15_13_13 hf dX15_of_6 (fun v2 hf => ?_)
  refine sj_cI (rest := []) (fun _ _ _ e => by
    obtain ⟨ci9, fs9, he9, e⟩ := sd_cls_some e
    by_cases z9_24 : ci9 = 24
    · rw [if_pos z9_24] at e; subst z9_24; exact sj_runZ (n := 2) (owner := "SofaDig$What") (As := [.ref a1, .int v2]) (rest := []) (sX29_of l G v1 a1 v2 h _ _ _ e) he9 rfl rfl rfl q2607 q2609 q2610 q2611 q2612 q2608 (by decide +kernel) rfl rfl ⟨by show 0 + 1 ≤ d + 1 + 12; omega, by show 8 + (3 + 11) + 0 ≤ 30 * (d + 1) + 400; omega⟩ rfl (Nat.le_of_ble_eq_true rfl) dX15_of_9
    rw [if_neg z9_24] at e
    by_cases z9_25 : ci9 = 25
    · rw [if_pos z9_25] at e; subst z9_25; exact sj_runZ (n := 2) (owner := "SofaDig$What") (As := [.ref a1, .int v2]) (rest := []) (sX40_of l G v1 a1 v2 h _ _ _ e) he9 rfl rfl rfl q2607 q2609 q2613 q2614 q2615 q2608 (by decide +kernel) rfl rfl ⟨by show 2 + 1 ≤ d + 1 + 12; omega, by show 8 + (3 + 11) + 42 ≤ 30 * (d + 1) + 400; omega⟩ rfl (Nat.le_of_ble_eq_true rfl) dX15_of_9
    rw [if_neg z9_25] at e
    by_cases z9_26 : ci9 = 26
    · rw [if_pos z9_26] at e; subst z9_26; exact sj_runZ (n := 2) (owner := "SofaDig$What") (As := [.ref a1, .int v2]) (rest := []) (sX30_of l G v1 a1 v2 h _ _ _ e) he9 rfl rfl rfl q2607 q2609 q2617 q2618 q2619 q2608 (by decide +kernel) rfl rfl ⟨by show 0 + 1 ≤ d + 1 + 12; omega, by show 8 + (3 + 11) + 0 ≤ 30 * (d + 1) + 400; omega⟩ rfl (Nat.le_of_ble_eq_true rfl) dX15_of_9
    rw [if_neg z9_26] at e
    by_cases z9_27 : ci9 = 27
    · rw [if_pos z9_27] at e; subst z9_27; exact sj_runZ (n := 2) (owner := "SofaDig$What") (As := [.ref a1, .int v2]) (rest := []) (sX41_of l G v1 a1 v2 h _ _ _ e) he9 rfl rfl rfl q2607 q2609 q2620 q2621 q2622 q2608 (by decide +kernel) rfl rfl ⟨by show 2 + 1 ≤ d + 1 + 12; omega, by show 8 + (3 + 11) + 43 ≤ 30 * (d + 1) + 400; omega⟩ rfl (Nat.le_of_ble_eq_true rfl) dX15_of_9
    rw [if_neg z9_27] at e
    by_cases z9_28 : ci9 = 28
    · rw [if_pos z9_28] at e; subst z9_28; exact sj_runZ (n := 2) (owner := "SofaDig$What") (As := [.ref a1, .int v2]) (rest := []) (sX27_of l G v1 a1 v2 h _ _ _ e) he9 rfl rfl rfl q2607 q2609 q2624 q2625 q2626 q2608 (by decide +kernel) rfl rfl ⟨by show 3 + 1 ≤ d + 1 + 12; omega, by show 8 + (3 + 11) + 64 ≤ 30 * (d + 1) + 400; omega⟩ rfl (Nat.le_of_ble_eq_true rfl) dX15_of_9
    rw [if_neg z9_28] at e
    by_cases z9_29 : ci9 = 29
    · rw [if_pos z9_29] at e; subst z9_29; exact sj_runZ (n := 2) (owner := "SofaDig$What") (As := [.ref a1, .int v2]) (rest := []) (sX28_of l G v1 a1 v2 h _ _ _ e) he9 rfl rfl rfl q2607 q2609 q2629 q2630 q2631 q2608 (by decide +kernel) rfl rfl ⟨by show 3 + 1 ≤ d + 1 + 12; omega, by show 8 + (3 + 11) + 64 ≤ 30 * (d + 1) + 400; omega⟩ rfl (Nat.le_of_ble_eq_true rfl) dX15_of_9
    rw [if_neg z9_29] at e
    cases e) hf (fun r3 h c hf => ?_)
  exact sj_iret (o := sd_oI) hf rfl rfl rfl dX15_of_12
/-! SofaDig$Height.of(LSofaDig$Sofa;)I -/
theorem fdX16_7_14 : sd_Fd "SofaDig$Height" 7 14 0 := ⟨(RX16, TX16, 1), "SofaDig$Height", rfl, by decide, rfl, in_X16, Or.inl rfl, Or.inl q1927⟩
def fX16_of (G : sd_G) (R : TRS) (a0 : Nat) (a1 : Nat) : sd_M Int32 :=
  sd_bnd (sd_getR G 14 0 a0) fun v1 =>
  sd_bnd (sd_isC G 2 a1) fun _ =>
  sd_bnd (R.2.2.2.2.2 a1 v1) fun r2 =>
  sd_bnd (sd_isC G 2 a1) fun _ =>
  sd_bnd (fX3_height G a1 r2) fun r3 =>
  sd_ret r3
set_option maxHeartbeats 4000000 in
theorem sX16_of (l : Launch) (G : sd_G) (d : Nat) (R : TRS) (HR : HRS l G d R) (a0 : Nat) (a1 : Nat) (h : sd_H) (ρ : Int32) (cT : Nat × Nat) (h2 : sd_H) (hf : fX16_of G R a0 a1 h = some (ρ, cT, h2)) : sd_Met mX16_of ((l, G), (d + 1 + 12, 30 * (d + 1) + 400), [.ref a0, .ref a1], (sd_oI ρ, h2), cT) h := by
  refine sd_entry (plainFor_of_name rfl) rfl (Nat.le_of_ble_eq_true rfl) ?_
  show sd_J mX16_of ((l, G), (d + 1 + 12, 30 * (d + 1) + 400), [.ref a0, .ref a1], (sd_oI ρ, h2), cT) 0 [(0, .ref a0), (1, .ref a1)] [] h cT
  unfold fX16_of at hf
  refine sj_aload_n 1 dX16_of_0 rfl ?_
  refine sj_aload_n 1 dX16_of_1 rfl ?_
  refine sj_aload_n 0 dX16_of_2 rfl ?_
  refine sj_getR fdX16_7_14 hf dX16_of_3 (fun v1 hf => ?_)
  obtain ⟨fs6, he6, hf⟩ := sd_isC_some hf
  refine sj_cI (rest := [.ref a1]) (fun _ _ _ e => sj_runV (n := 1) (As := [.ref v1]) (rest := [.ref a1]) (HR.2.2.2.2.2 a1 v1 h _ _ _ e) he6 rfl rfl rfl rfl q2637 q2638 q2639 q118 q2640 (by decide +kernel) rfl rfl ⟨by show d + 12 + 1 ≤ d + 1 + 12; omega, by show 8 + (3 + 11) + (30 * d + 400) ≤ 30 * (d + 1) + 400; omega⟩ rfl (Nat.le_of_ble_eq_true rfl) dX16_of_6) hf (fun r2 h c hf => ?_)
  obtain ⟨fs9, he9, hf⟩ := sd_isC_some hf
  refine sj_cI (rest := []) (fun _ _ _ e => sj_runV (n := 1) (As := [.int r2]) (rest := []) (sX3_height l G a1 r2 h _ _ _ e) he9 rfl rfl rfl rfl q2673 q2155 q2156 q118 q2157 (by decide +kernel) rfl rfl ⟨by show 3 + 1 ≤ d + 1 + 12; omega, by show 8 + (2 + 11) + 64 ≤ 30 * (d + 1) + 400; omega⟩ rfl (Nat.le_of_ble_eq_true rfl) dX16_of_9) hf (fun r3 h c hf => ?_)
  exact sj_iret (o := sd_oI) hf rfl rfl rfl dX16_of_12
/-! SofaDig$Turned.of(LSofaDig$Sofa;)I -/
theorem fdX17_7_15 : sd_Fd "SofaDig$Turned" 7 15 0 := ⟨(RX17, TX17, 1), "SofaDig$Turned", rfl, by decide, rfl, in_X17, Or.inl rfl, Or.inl q1938⟩
def fX17_of (G : sd_G) (R : TRS) (a0 : Nat) (a1 : Nat) : sd_M Int32 :=
  sd_bnd (sd_getR G 15 0 a0) fun v1 =>
  sd_bnd (sd_bnd (sd_cls G v1) fun k5 => if k5 = 12 then R.1 v1 a1 else if k5 = 13 then R.2.1 v1 a1 else if k5 = 14 then R.2.2.1 v1 a1 else if k5 = 15 then R.2.2.2.1 v1 a1 else if k5 = 16 then R.2.2.2.2.1 v1 a1 else sd_fail) fun r2 =>
  sd_ret (-r2)
set_option maxHeartbeats 4000000 in
theorem sX17_of (l : Launch) (G : sd_G) (d : Nat) (R : TRS) (HR : HRS l G d R) (a0 : Nat) (a1 : Nat) (h : sd_H) (ρ : Int32) (cT : Nat × Nat) (h2 : sd_H) (hf : fX17_of G R a0 a1 h = some (ρ, cT, h2)) : sd_Met mX17_of ((l, G), (d + 1 + 12, 30 * (d + 1) + 400), [.ref a0, .ref a1], (sd_oI ρ, h2), cT) h := by
  refine sd_entry (plainFor_of_name rfl) rfl (Nat.le_of_ble_eq_true rfl) ?_
  show sd_J mX17_of ((l, G), (d + 1 + 12, 30 * (d + 1) + 400), [.ref a0, .ref a1], (sd_oI ρ, h2), cT) 0 [(0, .ref a0), (1, .ref a1)] [] h cT
  unfold fX17_of at hf
  refine sj_aload_n 0 dX17_of_0 rfl ?_
  refine sj_getR fdX17_7_15 hf dX17_of_1 (fun v1 hf => ?_)
  refine sj_aload_n 1 dX17_of_4 rfl ?_
  refine sj_cI (rest := []) (fun _ _ _ e => by
    obtain ⟨ci5, fs5, he5, e⟩ := sd_cls_some e
    by_cases z5_12 : ci5 = 12
    · rw [if_pos z5_12] at e; subst z5_12; exact sj_runU (n := 1) (owner := "SofaDig$Sum") (As := [.ref a1]) (rest := []) (HR.1 v1 a1 h _ _ _ e) he5 rfl rfl rfl q2649 q2603 q2675 q2645 q163 q2646 (Or.inr (Or.inl q2602)) (by decide +kernel) rfl rfl (fun _ z => by cases z) ⟨by show d + 12 + 1 ≤ d + 1 + 12; omega, by show 8 + (2 + 11) + (30 * d + 400) ≤ 30 * (d + 1) + 400; omega⟩ rfl (Nat.le_of_ble_eq_true rfl) dX17_of_5
    rw [if_neg z5_12] at e
    by_cases z5_13 : ci5 = 13
    · rw [if_pos z5_13] at e; subst z5_13; exact sj_runU (n := 1) (owner := "SofaDig$Sum") (As := [.ref a1]) (rest := []) (HR.2.1 v1 a1 h _ _ _ e) he5 rfl rfl rfl q2649 q2603 q2604 q2605 q165 q2606 (Or.inr (Or.inl q2602)) (by decide +kernel) rfl rfl (fun _ z => by cases z) ⟨by show d + 12 + 1 ≤ d + 1 + 12; omega, by show 8 + (2 + 11) + (30 * d + 400) ≤ 30 * (d + 1) + 400; omega⟩ rfl (Nat.le_of_ble_eq_true rfl) dX17_of_5
    rw [if_neg z5_13] at e
    by_cases z5_14 : ci5 = 14
    · rw [if_pos z5_14] at e; subst z5_14; exact sj_runU (n := 1) (owner := "SofaDig$Sum") (As := [.ref a1]) (rest := []) (HR.2.2.1 v1 a1 h _ _ _ e) he5 rfl rfl rfl q2649 q2603 q2634 q2635 q167 q2636 (Or.inr (Or.inl q2602)) (by decide +kernel) rfl rfl (fun _ z => by cases z) ⟨by show d + 12 + 1 ≤ d + 1 + 12; omega, by show 8 + (2 + 11) + (30 * d + 400) ≤ 30 * (d + 1) + 400; omega⟩ rfl (Nat.le_of_ble_eq_true rfl) dX17_of_5
    rw [if_neg z5_14] at e
    by_cases z5_15 : ci5 = 15
    · rw [if_pos z5_15] at e; subst z5_15; exact sj_runU (n := 1) (owner := "SofaDig$Sum") (As := [.ref a1]) (rest := []) (HR.2.2.2.1 v1 a1 h _ _ _ e) he5 rfl rfl rfl q2649 q2603 q2676 q2647 q168 q2648 (Or.inr (Or.inl q2602)) (by decide +kernel) rfl rfl (fun _ z => by cases z) ⟨by show d + 12 + 1 ≤ d + 1 + 12; omega, by show 8 + (2 + 11) + (30 * d + 400) ≤ 30 * (d + 1) + 400; omega⟩ rfl (Nat.le_of_ble_eq_true rfl) dX17_of_5
    rw [if_neg z5_15] at e
    by_cases z5_16 : ci5 = 16
    · rw [if_pos z5_16] at e; subst z5_16; exact sj_runU (n := 1) (owner := "SofaDig$Sum") (As := [.ref a1]) (rest := []) (HR.2.2.2.2.1 v1 a1 h _ _ _ e) he5 rfl rfl rfl q2649 q2603 q2674 q2642 q170 q2643 (Or.inr (Or.inl q2602)) (by decide +kernel) rfl rfl (fun _ z => by cases z) ⟨by show d + 12 + 1 ≤ d + 1 + 12; omega, by show 8 + (2 + 11) + (30 * d + 400) ≤ 30 * (d + 1) + 400; omega⟩ rfl (Nat.le_of_ble_eq_true rfl) dX17_of_5
    rw [if_neg z5_16] at e
    cases e) hf (fun r2 h c hf => ?_)
  refine sj_ineg dX17_of_8 ?_
  exact sj_iret (o := sd_oI) hf rfl rfl rfl dX17_of_9
/-! SofaDig$Joined.of(LSofaDig$Sofa;)I -/
theorem fdX18_7_16 : sd_Fd "SofaDig$Joined" 7 16 0 := ⟨(RX18, TX18, 3), "SofaDig$Joined", rfl, by decide, rfl, in_X18, Or.inl rfl, Or.inl q1952⟩
theorem fdX18_13_16 : sd_Fd "SofaDig$Joined" 13 16 1 := ⟨(RX18, TX18, 3), "SofaDig$Joined", rfl, by decide, rfl, in_X18, Or.inl rfl, Or.inl q1953⟩
theorem fdX18_17_16 : sd_Fd "SofaDig$Joined" 17 16 2 := ⟨(RX18, TX18, 3), "SofaDig$Joined", rfl, by decide, rfl, in_X18, Or.inl rfl, Or.inl q1954⟩
def fX18_of (G : sd_G) (R : TRS) (a0 : Nat) (a1 : Nat) : sd_M Int32 :=
  sd_bnd (sd_getR G 16 0 a0) fun v1 =>
  sd_bnd (sd_getR G 16 1 a0) fun v2 =>
  sd_bnd (sd_bnd (sd_cls G v2) fun k9 => if k9 = 12 then R.1 v2 a1 else if k9 = 13 then R.2.1 v2 a1 else if k9 = 14 then R.2.2.1 v2 a1 else if k9 = 15 then R.2.2.2.1 v2 a1 else if k9 = 16 then R.2.2.2.2.1 v2 a1 else sd_fail) fun r3 =>
  sd_bnd (sd_getR G 16 2 a0) fun v4 =>
  sd_bnd (sd_bnd (sd_cls G v4) fun k17 => if k17 = 12 then R.1 v4 a1 else if k17 = 13 then R.2.1 v4 a1 else if k17 = 14 then R.2.2.1 v4 a1 else if k17 = 15 then R.2.2.2.1 v4 a1 else if k17 = 16 then R.2.2.2.2.1 v4 a1 else sd_fail) fun r5 =>
  sd_bnd (sd_bnd (sd_cls G v1) fun k20 => if k20 = 33 then fX34_join G v1 r3 r5 else if k20 = 34 then fX35_join G v1 r3 r5 else if k20 = 35 then fX36_join G v1 r3 r5 else if k20 = 36 then fX37_join G v1 r3 r5 else if k20 = 37 then fX38_join G v1 r3 r5 else if k20 = 38 then fX39_join G v1 r3 r5 else sd_fail) fun r6 =>
  sd_ret r6
set_option maxHeartbeats 4000000 in
theorem sX18_of (l : Launch) (G : sd_G) (d : Nat) (R : TRS) (HR : HRS l G d R) (a0 : Nat) (a1 : Nat) (h : sd_H) (ρ : Int32) (cT : Nat × Nat) (h2 : sd_H) (hf : fX18_of G R a0 a1 h = some (ρ, cT, h2)) : sd_Met mX18_of ((l, G), (d + 1 + 12, 30 * (d + 1) + 400), [.ref a0, .ref a1], (sd_oI ρ, h2), cT) h := by
  refine sd_entry (plainFor_of_name rfl) rfl (Nat.le_of_ble_eq_true rfl) ?_
  show sd_J mX18_of ((l, G), (d + 1 + 12, 30 * (d + 1) + 400), [.ref a0, .ref a1], (sd_oI ρ, h2), cT) 0 [(0, .ref a0), (1, .ref a1)] [] h cT
  unfold fX18_of at hf
  refine sj_aload_n 0 dX18_of_0 rfl ?_
  refine sj_getR fdX18_7_16 hf dX18_of_1 (fun v1 hf => ?_)
  refine sj_aload_n 0 dX18_of_4 rfl ?_
  refine sj_getR fdX18_13_16 hf dX18_of_5 (fun v2 hf => ?_)
  refine sj_aload_n 1 dX18_of_8 rfl ?_
  refine sj_cI (rest := [.ref v1]) (fun _ _ _ e => by
    obtain ⟨ci9, fs9, he9, e⟩ := sd_cls_some e
    by_cases z9_12 : ci9 = 12
    · rw [if_pos z9_12] at e; subst z9_12; exact sj_runU (n := 1) (owner := "SofaDig$Sum") (As := [.ref a1]) (rest := [.ref v1]) (HR.1 v2 a1 h _ _ _ e) he9 rfl rfl rfl q2644 q2603 q2675 q2645 q163 q2646 (Or.inr (Or.inl q2602)) (by decide +kernel) rfl rfl (fun _ z => by cases z) ⟨by show d + 12 + 1 ≤ d + 1 + 12; omega, by show 8 + (2 + 11) + (30 * d + 400) ≤ 30 * (d + 1) + 400; omega⟩ rfl (Nat.le_of_ble_eq_true rfl) dX18_of_9
    rw [if_neg z9_12] at e
    by_cases z9_13 : ci9 = 13
    · rw [if_pos z9_13] at e; subst z9_13; exact sj_runU (n := 1) (owner := "SofaDig$Sum") (As := [.ref a1]) (rest := [.ref v1]) (HR.2.1 v2 a1 h _ _ _ e) he9 rfl rfl rfl q2644 q2603 q2604 q2605 q165 q2606 (Or.inr (Or.inl q2602)) (by decide +kernel) rfl rfl (fun _ z => by cases z) ⟨by show d + 12 + 1 ≤ d + 1 + 12; omega, by show 8 + (2 + 11) + (30 * d + 400) ≤ 30 * (d + 1) + 400; omega⟩ rfl (Nat.le_of_ble_eq_true rfl) dX18_of_9
    rw [if_neg z9_13] at e
    by_cases z9_14 : ci9 = 14
    · rw [if_pos z9_14] at e; subst z9_14; exact sj_runU (n := 1) (owner := "SofaDig$Sum") (As := [.ref a1]) (rest := [.ref v1]) (HR.2.2.1 v2 a1 h _ _ _ e) he9 rfl rfl rfl q2644 q2603 q2634 q2635 q167 q2636 (Or.inr (Or.inl q2602)) (by decide +kernel) rfl rfl (fun _ z => by cases z) ⟨by show d + 12 + 1 ≤ d + 1 + 12; omega, by show 8 + (2 + 11) + (30 * d + 400) ≤ 30 * (d + 1) + 400; omega⟩ rfl (Nat.le_of_ble_eq_true rfl) dX18_of_9
    rw [if_neg z9_14] at e
    by_cases z9_15 : ci9 = 15
    · rw [if_pos z9_15] at e; subst z9_15; exact sj_runU (n := 1) (owner := "SofaDig$Sum") (As := [.ref a1]) (rest := [.ref v1]) (HR.2.2.2.1 v2 a1 h _ _ _ e) he9 rfl rfl rfl q2644 q2603 q2676 q2647 q168 q2648 (Or.inr (Or.inl q2602)) (by decide +kernel) rfl rfl (fun _ z => by cases z) ⟨by show d + 12 + 1 ≤ d + 1 + 12; omega, by show 8 + (2 + 11) + (30 * d + 400) ≤ 30 * (d + 1) + 400; omega⟩ rfl (Nat.le_of_ble_eq_true rfl) dX18_of_9
    rw [if_neg z9_15] at e
    by_cases z9_16 : ci9 = 16
    · rw [if_pos z9_16] at e; subst z9_16; exact sj_runU (n := 1) (owner := "SofaDig$Sum") (As := [.ref a1]) (rest := [.ref v1]) (HR.2.2.2.2.1 v2 a1 h _ _ _ e) he9 rfl rfl rfl q2644 q2603 q2674 q2642 q170 q2643 (Or.inr (Or.inl q2602)) (by decide +kernel) rfl rfl (fun _ z => by cases z) ⟨by show d + 12 + 1 ≤ d + 1 + 12; omega, by show 8 + (2 + 11) + (30 * d + 400) ≤ 30 * (d + 1) + 400; omega⟩ rfl (Nat.le_of_ble_eq_true rfl) dX18_of_9
    rw [if_neg z9_16] at e
    cases e) hf (fun r3 h c hf => ?_)
  refine sj_aload_n 0 dX18_of_12 rfl ?_
  refine sj_getR fdX18_17_16 hf dX18_of_13 (fun v4 hf => ?_)
  refine sj_aload_n 1 dX18_of_16 rfl ?_
  refine sj_cI (rest := [.int r3, .ref v1]) (fun _ _ _ e => by
    obtain ⟨ci17, fs17, he17, e⟩ := sd_cls_some e
    by_cases z17_12 : ci17 = 12
    · rw [if_pos z17_12] at e; subst z17_12; exact sj_runU (n := 1) (owner := "SofaDig$Sum") (As := [.ref a1]) (rest := [.int r3, .ref v1]) (HR.1 v4 a1 h _ _ _ e) he17 rfl rfl rfl q2644 q2603 q2675 q2645 q163 q2646 (Or.inr (Or.inl q2602)) (by decide +kernel) rfl rfl (fun _ z => by cases z) ⟨by show d + 12 + 1 ≤ d + 1 + 12; omega, by show 8 + (2 + 11) + (30 * d + 400) ≤ 30 * (d + 1) + 400; omega⟩ rfl (Nat.le_of_ble_eq_true rfl) dX18_of_17
    rw [if_neg z17_12] at e
    by_cases z17_13 : ci17 = 13
    · rw [if_pos z17_13] at e; subst z17_13; exact sj_runU (n := 1) (owner := "SofaDig$Sum") (As := [.ref a1]) (rest := [.int r3, .ref v1]) (HR.2.1 v4 a1 h _ _ _ e) he17 rfl rfl rfl q2644 q2603 q2604 q2605 q165 q2606 (Or.inr (Or.inl q2602)) (by decide +kernel) rfl rfl (fun _ z => by cases z) ⟨by show d + 12 + 1 ≤ d + 1 + 12; omega, by show 8 + (2 + 11) + (30 * d + 400) ≤ 30 * (d + 1) + 400; omega⟩ rfl (Nat.le_of_ble_eq_true rfl) dX18_of_17
    rw [if_neg z17_13] at e
    by_cases z17_14 : ci17 = 14
    · rw [if_pos z17_14] at e; subst z17_14; exact sj_runU (n := 1) (owner := "SofaDig$Sum") (As := [.ref a1]) (rest := [.int r3, .ref v1]) (HR.2.2.1 v4 a1 h _ _ _ e) he17 rfl rfl rfl q2644 q2603 q2634 q2635 q167 q2636 (Or.inr (Or.inl q2602)) (by decide +kernel) rfl rfl (fun _ z => by cases z) ⟨by show d + 12 + 1 ≤ d + 1 + 12; omega, by show 8 + (2 + 11) + (30 * d + 400) ≤ 30 * (d + 1) + 400; omega⟩ rfl (Nat.le_of_ble_eq_true rfl) dX18_of_17
    rw [if_neg z17_14] at e
    by_cases z17_15 : ci17 = 15
    · rw [if_pos z17_15] at e; subst z17_15; exact sj_runU (n := 1) (owner := "SofaDig$Sum") (As := [.ref a1]) (rest := [.int r3, .ref v1]) (HR.2.2.2.1 v4 a1 h _ _ _ e) he17 rfl rfl rfl q2644 q2603 q2676 q2647 q168 q2648 (Or.inr (Or.inl q2602)) (by decide +kernel) rfl rfl (fun _ z => by cases z) ⟨by show d + 12 + 1 ≤ d + 1 + 12; omega, by show 8 + (2 + 11) + (30 * d + 400) ≤ 30 * (d + 1) + 400; omega⟩ rfl (Nat.le_of_ble_eq_true rfl) dX18_of_17
    rw [if_neg z17_15] at e
    by_cases z17_16 : ci17 = 16
    · rw [if_pos z17_16] at e; subst z17_16; exact sj_runU (n := 1) (owner := "SofaDig$Sum") (As := [.ref a1]) (rest := [.int r3, .ref v1]) (HR.2.2.2.2.1 v4 a1 h _ _ _ e) he17 rfl rfl rfl q2644 q2603 q2674 q2642 q170 q2643 (Or.inr (Or.inl q2602)) (by decide +kernel) rfl rfl (fun _ z => by cases z) ⟨by show d + 12 + 1 ≤ d + 1 + 12; omega, by show 8 + (2 + 11) + (30 * d + 400) ≤ 30 * (d + 1) + 400; omega⟩ rfl (Nat.le_of_ble_eq_true rfl) dX18_of_17
    rw [if_neg z17_16] at e
    cases e) hf (fun r5 h c hf => ?_)
  refine sj_cI (rest := []) (fun _ _ _ e => by
    obtain ⟨ci20, fs20, he20, e⟩ := sd_cls_some e
    by_cases z20_33 : ci20 = 33
    · rw [if_pos z20_33] at e; subst z20_33; exact sj_runZ (n := 2) (owner := "SofaDig$Sign") (As := [.int r3, .int r5]) (rest := []) (sX34_join l G v1 r3 r5 h _ _ _ e) he20 rfl rfl rfl q2650 q2652 q2653 q2654 q2655 q2651 (by decide +kernel) rfl rfl ⟨by show 0 + 1 ≤ d + 1 + 12; omega, by show 8 + (3 + 11) + 0 ≤ 30 * (d + 1) + 400; omega⟩ rfl (Nat.le_of_ble_eq_true rfl) dX18_of_20
    rw [if_neg z20_33] at e
    by_cases z20_34 : ci20 = 34
    · rw [if_pos z20_34] at e; subst z20_34; exact sj_runZ (n := 2) (owner := "SofaDig$Sign") (As := [.int r3, .int r5]) (rest := []) (sX35_join l G v1 r3 r5 h _ _ _ e) he20 rfl rfl rfl q2650 q2652 q2656 q2657 q2658 q2651 (by decide +kernel) rfl rfl ⟨by show 0 + 1 ≤ d + 1 + 12; omega, by show 8 + (3 + 11) + 0 ≤ 30 * (d + 1) + 400; omega⟩ rfl (Nat.le_of_ble_eq_true rfl) dX18_of_20
    rw [if_neg z20_34] at e
    by_cases z20_35 : ci20 = 35
    · rw [if_pos z20_35] at e; subst z20_35; exact sj_runZ (n := 2) (owner := "SofaDig$Sign") (As := [.int r3, .int r5]) (rest := []) (sX36_join l G v1 r3 r5 h _ _ _ e) he20 rfl rfl rfl q2650 q2652 q2659 q2660 q2661 q2651 (by decide +kernel) rfl rfl ⟨by show 0 + 1 ≤ d + 1 + 12; omega, by show 8 + (3 + 11) + 0 ≤ 30 * (d + 1) + 400; omega⟩ rfl (Nat.le_of_ble_eq_true rfl) dX18_of_20
    rw [if_neg z20_35] at e
    by_cases z20_36 : ci20 = 36
    · rw [if_pos z20_36] at e; subst z20_36; exact sj_runZ (n := 2) (owner := "SofaDig$Sign") (As := [.int r3, .int r5]) (rest := []) (sX37_join l G v1 r3 r5 h _ _ _ e) he20 rfl rfl rfl q2650 q2652 q2662 q2663 q2664 q2651 (by decide +kernel) rfl rfl ⟨by show 0 + 1 ≤ d + 1 + 12; omega, by show 8 + (3 + 11) + 0 ≤ 30 * (d + 1) + 400; omega⟩ rfl (Nat.le_of_ble_eq_true rfl) dX18_of_20
    rw [if_neg z20_36] at e
    by_cases z20_37 : ci20 = 37
    · rw [if_pos z20_37] at e; subst z20_37; exact sj_runZ (n := 2) (owner := "SofaDig$Sign") (As := [.int r3, .int r5]) (rest := []) (sX38_join l G v1 r3 r5 h _ _ _ e) he20 rfl rfl rfl q2650 q2652 q2665 q2666 q2667 q2651 (by decide +kernel) rfl rfl ⟨by show 1 + 1 ≤ d + 1 + 12; omega, by show 8 + (3 + 11) + 21 ≤ 30 * (d + 1) + 400; omega⟩ rfl (Nat.le_of_ble_eq_true rfl) dX18_of_20
    rw [if_neg z20_37] at e
    by_cases z20_38 : ci20 = 38
    · rw [if_pos z20_38] at e; subst z20_38; exact sj_runZ (n := 2) (owner := "SofaDig$Sign") (As := [.int r3, .int r5]) (rest := []) (sX39_join l G v1 r3 r5 h _ _ _ e) he20 rfl rfl rfl q2650 q2652 q2669 q2670 q2671 q2651 (by decide +kernel) rfl rfl ⟨by show 1 + 1 ≤ d + 1 + 12; omega, by show 8 + (3 + 11) + 21 ≤ 30 * (d + 1) + 400; omega⟩ rfl (Nat.le_of_ble_eq_true rfl) dX18_of_20
    rw [if_neg z20_38] at e
    cases e) hf (fun r6 h c hf => ?_)
  exact sj_iret (o := sd_oI) hf rfl rfl rfl dX18_of_23
/-! SofaDig$Sofa.told(LSofaDig$Sum;)I -/
def fX3_told (G : sd_G) (R : TRS) (a0 : Nat) (a1 : Nat) : sd_M Int32 :=
  sd_bnd (sd_bnd (sd_cls G a1) fun k2 => if k2 = 12 then R.1 a1 a0 else if k2 = 13 then R.2.1 a1 a0 else if k2 = 14 then R.2.2.1 a1 a0 else if k2 = 15 then R.2.2.2.1 a1 a0 else if k2 = 16 then R.2.2.2.2.1 a1 a0 else sd_fail) fun r1 =>
  sd_bnd (sd_getI G 2 1 a0) fun v2 =>
  sd_bnd (sd_nz v2) fun _ =>
  sd_bnd (sd_ret (r1 - r1 / v2 * v2)) fun x3 =>
  if 0 ≤ x3 then (
    sd_ret x3)
  else (
    sd_bnd (sd_getI G 2 1 a0) fun v4 =>
    sd_ret (x3 + v4))
set_option maxHeartbeats 4000000 in
theorem sX3_told (l : Launch) (G : sd_G) (d : Nat) (R : TRS) (HR : HRS l G d R) (a0 : Nat) (a1 : Nat) (h : sd_H) (ρ : Int32) (cT : Nat × Nat) (h2 : sd_H) (hf : fX3_told G R a0 a1 h = some (ρ, cT, h2)) : sd_Met mX3_told ((l, G), (d + 1 + 12, 30 * (d + 1) + 400), [.ref a0, .ref a1], (sd_oI ρ, h2), cT) h := by
  refine sd_entry (plainFor_of_name rfl) rfl (Nat.le_of_ble_eq_true rfl) ?_
  show sd_J mX3_told ((l, G), (d + 1 + 12, 30 * (d + 1) + 400), [.ref a0, .ref a1], (sd_oI ρ, h2), cT) 0 [(0, .ref a0), (1, .ref a1)] [] h cT
  unfold fX3_told at hf
  refine sj_aload_n 1 dX3_told_0 rfl ?_
  refine sj_aload_n 0 dX3_told_1 rfl ?_
  refine sj_cI (rest := []) (fun _ _ _ e => by
    obtain ⟨ci2, fs2, he2, e⟩ := sd_cls_some e
    by_cases z2_12 : ci2 = 12
    · rw [if_pos z2_12] at e; subst z2_12; exact sj_runU (n := 1) (owner := "SofaDig$Sum") (As := [.ref a0]) (rest := []) (HR.1 a1 a0 h _ _ _ e) he2 rfl rfl rfl q2641 q2603 q2675 q2645 q163 q2646 (Or.inr (Or.inl q2602)) (by decide +kernel) rfl rfl (fun _ z => by cases z) ⟨by show d + 12 + 1 ≤ d + 1 + 12; omega, by show 8 + (2 + 11) + (30 * d + 400) ≤ 30 * (d + 1) + 400; omega⟩ rfl (Nat.le_of_ble_eq_true rfl) dX3_told_2
    rw [if_neg z2_12] at e
    by_cases z2_13 : ci2 = 13
    · rw [if_pos z2_13] at e; subst z2_13; exact sj_runU (n := 1) (owner := "SofaDig$Sum") (As := [.ref a0]) (rest := []) (HR.2.1 a1 a0 h _ _ _ e) he2 rfl rfl rfl q2641 q2603 q2604 q2605 q165 q2606 (Or.inr (Or.inl q2602)) (by decide +kernel) rfl rfl (fun _ z => by cases z) ⟨by show d + 12 + 1 ≤ d + 1 + 12; omega, by show 8 + (2 + 11) + (30 * d + 400) ≤ 30 * (d + 1) + 400; omega⟩ rfl (Nat.le_of_ble_eq_true rfl) dX3_told_2
    rw [if_neg z2_13] at e
    by_cases z2_14 : ci2 = 14
    · rw [if_pos z2_14] at e; subst z2_14; exact sj_runU (n := 1) (owner := "SofaDig$Sum") (As := [.ref a0]) (rest := []) (HR.2.2.1 a1 a0 h _ _ _ e) he2 rfl rfl rfl q2641 q2603 q2634 q2635 q167 q2636 (Or.inr (Or.inl q2602)) (by decide +kernel) rfl rfl (fun _ z => by cases z) ⟨by show d + 12 + 1 ≤ d + 1 + 12; omega, by show 8 + (2 + 11) + (30 * d + 400) ≤ 30 * (d + 1) + 400; omega⟩ rfl (Nat.le_of_ble_eq_true rfl) dX3_told_2
    rw [if_neg z2_14] at e
    by_cases z2_15 : ci2 = 15
    · rw [if_pos z2_15] at e; subst z2_15; exact sj_runU (n := 1) (owner := "SofaDig$Sum") (As := [.ref a0]) (rest := []) (HR.2.2.2.1 a1 a0 h _ _ _ e) he2 rfl rfl rfl q2641 q2603 q2676 q2647 q168 q2648 (Or.inr (Or.inl q2602)) (by decide +kernel) rfl rfl (fun _ z => by cases z) ⟨by show d + 12 + 1 ≤ d + 1 + 12; omega, by show 8 + (2 + 11) + (30 * d + 400) ≤ 30 * (d + 1) + 400; omega⟩ rfl (Nat.le_of_ble_eq_true rfl) dX3_told_2
    rw [if_neg z2_15] at e
    by_cases z2_16 : ci2 = 16
    · rw [if_pos z2_16] at e; subst z2_16; exact sj_runU (n := 1) (owner := "SofaDig$Sum") (As := [.ref a0]) (rest := []) (HR.2.2.2.2.1 a1 a0 h _ _ _ e) he2 rfl rfl rfl q2641 q2603 q2674 q2642 q170 q2643 (Or.inr (Or.inl q2602)) (by decide +kernel) rfl rfl (fun _ z => by cases z) ⟨by show d + 12 + 1 ≤ d + 1 + 12; omega, by show 8 + (2 + 11) + (30 * d + 400) ≤ 30 * (d + 1) + 400; omega⟩ rfl (Nat.le_of_ble_eq_true rfl) dX3_told_2
    rw [if_neg z2_16] at e
    cases e) hf (fun r1 h c hf => ?_)
  refine sj_aload_n 0 dX3_told_5 rfl ?_
  refine sj_getI fdX3_15_2 hf dX3_told_6 (fun v2 hf => ?_)
  obtain ⟨hz9, hf⟩ := sd_nz_some hf
  refine sj_irem dX3_told_9 hz9 ?_
  refine sj_nameI hf (fun x3 hf => ?_)
  refine sj_istore_n [(2, .int x3), (0, .ref a0), (1, .ref a1)] dX3_told_10 (by decide) rfl ?_
  refine sj_iload_n 0 dX3_told_11 rfl ?_
  refine sj_ifge 24 hf dX3_told_12 (by decide) (fun g12 hf => ?_) (fun g12 hf => ?_)
  · refine sj_iload_n 0 dX3_told_24 rfl ?_
    exact sj_iret (o := sd_oI) hf rfl rfl rfl dX3_told_25
  · refine sj_iload_n 0 dX3_told_15 rfl ?_
    refine sj_aload_n 1 dX3_told_16 rfl ?_
    refine sj_getI fdX3_15_2 hf dX3_told_17 (fun v4 hf => ?_)
    refine sj_iadd dX3_told_20 ?_
    refine sj_goto 25 dX3_told_21 (by decide) ?_
    exact sj_iret (o := sd_oI) hf rfl rfl rfl dX3_told_25
def pRS (G : sd_G) : Nat → TRS
  | 0 => (fun _ _ => sd_fail, fun _ _ => sd_fail, fun _ _ => sd_fail, fun _ _ => sd_fail, fun _ _ => sd_fail, fun _ _ => sd_fail)
  | d + 1 => (fun a0 a1 => fX14_of G (pRS G d) a0 a1,
    fun a0 a1 => fX15_of G (pRS G d) a0 a1,
    fun a0 a1 => fX16_of G (pRS G d) a0 a1,
    fun a0 a1 => fX17_of G (pRS G d) a0 a1,
    fun a0 a1 => fX18_of G (pRS G d) a0 a1,
    fun a0 a1 => fX3_told G (pRS G d) a0 a1)
theorem spRS (l : Launch) (G : sd_G) : ∀ d, HRS l G d (pRS G d)
  | 0 => ⟨fun _ _ _ _ _ _ e => (by cases e), fun _ _ _ _ _ _ e => (by cases e), fun _ _ _ _ _ _ e => (by cases e), fun _ _ _ _ _ _ e => (by cases e), fun _ _ _ _ _ _ e => (by cases e), fun _ _ _ _ _ _ e => (by cases e)⟩
  | d + 1 => ⟨fun a0 a1 h ρ cT h2 e => sX14_of l G d (pRS G d) (spRS l G d) a0 a1 h ρ cT h2 e,
    fun a0 a1 h ρ cT h2 e => sX15_of l G d (pRS G d) (spRS l G d) a0 a1 h ρ cT h2 e,
    fun a0 a1 h ρ cT h2 e => sX16_of l G d (pRS G d) (spRS l G d) a0 a1 h ρ cT h2 e,
    fun a0 a1 h ρ cT h2 e => sX17_of l G d (pRS G d) (spRS l G d) a0 a1 h ρ cT h2 e,
    fun a0 a1 h ρ cT h2 e => sX18_of l G d (pRS G d) (spRS l G d) a0 a1 h ρ cT h2 e,
    fun a0 a1 h ρ cT h2 e => sX3_told l G d (pRS G d) (spRS l G d) a0 a1 h ρ cT h2 e⟩
