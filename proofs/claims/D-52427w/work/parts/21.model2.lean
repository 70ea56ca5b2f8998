set_option maxRecDepth 100000
abbrev cX5_isTest : ByteArray := prog_46_method_56_code
def yX5_isTest : MethodName := ⟨RX5, "isTest", "(LSofaDigModel$Plan;)Z"⟩
def dkwX5_isTest_1 : List UInt8 := [154, 0, 5, 3, 172, 42, 43, 16, 26, 3, 182, 1, 12, 167, 255, 229, 4, 172]
abbrev dktX5_isTest_1 : List UInt8 := dkwX5_isTest_1 ++ []
def dkwX5_isTest_0 : List UInt8 := [42, 43, 182, 1, 29, 154, 0, 5, 3, 172, 42, 16, 26, 182, 1, 3, 153, 0, 24, 42, 43, 182, 1, 29]
abbrev dktX5_isTest_0 : List UInt8 := dkwX5_isTest_0 ++ dktX5_isTest_1
theorem dksX5_isTest_0 : cX5_isTest.data.toList.drop 0 = dktX5_isTest_0 := by decide +kernel
theorem dksX5_isTest_1 : cX5_isTest.data.toList.drop 24 = dktX5_isTest_1 := dk_seg dksX5_isTest_0 24 rfl rfl
theorem dX5_isTest_0 : decode cX5_isTest 0 = .ok (.aload_n 0, 1) := dk_42 (dk_at dksX5_isTest_0 0 rfl rfl)
theorem dX5_isTest_1 : decode cX5_isTest 1 = .ok (.aload_n 1, 1) := dk_43 (dk_at dksX5_isTest_0 1 rfl rfl)
theorem dX5_isTest_2 : decode cX5_isTest 2 = .ok (.invokevirtual 285, 3) := dk_182 1 29 (dk_at dksX5_isTest_0 2 rfl rfl)
theorem dX5_isTest_5 : decode cX5_isTest 5 = .ok (.ifCond .ne 5, 3) := dk_154 0 5 (dk_at dksX5_isTest_0 5 rfl rfl)
theorem dX5_isTest_8 : decode cX5_isTest 8 = .ok (.iconst 0, 1) := dk_3 (dk_at dksX5_isTest_0 8 rfl rfl)
theorem dX5_isTest_9 : decode cX5_isTest 9 = .ok (.ireturn, 1) := dk_172 (dk_at dksX5_isTest_0 9 rfl rfl)
theorem dX5_isTest_10 : decode cX5_isTest 10 = .ok (.aload_n 0, 1) := dk_42 (dk_at dksX5_isTest_0 10 rfl rfl)
theorem dX5_isTest_11 : decode cX5_isTest 11 = .ok (.bipush 26, 2) := dk_16 26 (dk_at dksX5_isTest_0 11 rfl rfl)
theorem dX5_isTest_13 : decode cX5_isTest 13 = .ok (.invokevirtual 259, 3) := dk_182 1 3 (dk_at dksX5_isTest_0 13 rfl rfl)
theorem dX5_isTest_16 : decode cX5_isTest 16 = .ok (.ifCond .eq 24, 3) := dk_153 0 24 (dk_at dksX5_isTest_0 16 rfl rfl)
theorem dX5_isTest_19 : decode cX5_isTest 19 = .ok (.aload_n 0, 1) := dk_42 (dk_at dksX5_isTest_0 19 rfl rfl)
theorem dX5_isTest_20 : decode cX5_isTest 20 = .ok (.aload_n 1, 1) := dk_43 (dk_at dksX5_isTest_0 20 rfl rfl)
theorem dX5_isTest_21 : decode cX5_isTest 21 = .ok (.invokevirtual 285, 3) := dk_182 1 29 (dk_at dksX5_isTest_0 21 rfl rfl)
theorem dX5_isTest_24 : decode cX5_isTest 24 = .ok (.ifCond .ne 5, 3) := dk_154 0 5 (dk_at dksX5_isTest_1 0 rfl rfl)
theorem dX5_isTest_27 : decode cX5_isTest 27 = .ok (.iconst 0, 1) := dk_3 (dk_at dksX5_isTest_1 3 rfl rfl)
theorem dX5_isTest_28 : decode cX5_isTest 28 = .ok (.ireturn, 1) := dk_172 (dk_at dksX5_isTest_1 4 rfl rfl)
theorem dX5_isTest_29 : decode cX5_isTest 29 = .ok (.aload_n 0, 1) := dk_42 (dk_at dksX5_isTest_1 5 rfl rfl)
theorem dX5_isTest_30 : decode cX5_isTest 30 = .ok (.aload_n 1, 1) := dk_43 (dk_at dksX5_isTest_1 6 rfl rfl)
theorem dX5_isTest_31 : decode cX5_isTest 31 = .ok (.bipush 26, 2) := dk_16 26 (dk_at dksX5_isTest_1 7 rfl rfl)
theorem dX5_isTest_33 : decode cX5_isTest 33 = .ok (.iconst 0, 1) := dk_3 (dk_at dksX5_isTest_1 9 rfl rfl)
theorem dX5_isTest_34 : decode cX5_isTest 34 = .ok (.invokevirtual 268, 3) := dk_182 1 12 (dk_at dksX5_isTest_1 10 rfl rfl)
theorem dX5_isTest_37 : decode cX5_isTest 37 = .ok (.goto (-27), 3) := dk_167 255 229 (dk_at dksX5_isTest_1 13 rfl rfl)
theorem dX5_isTest_40 : decode cX5_isTest 40 = .ok (.iconst 1, 1) := dk_4 (dk_at dksX5_isTest_1 16 rfl rfl)
theorem dX5_isTest_41 : decode cX5_isTest 41 = .ok (.ireturn, 1) := dk_172 (dk_at dksX5_isTest_1 17 rfl rfl)
abbrev cX5_isBoth : ByteArray := prog_46_method_57_code
def yX5_isBoth : MethodName := ⟨RX5, "isBoth", "(LSofaDigModel$Plan;)Z"⟩
def dkwX5_isBoth_1 : List UInt8 := [154, 0, 5, 3, 172, 42, 43, 16, 25, 3, 182, 1, 12, 167, 255, 229, 4, 172]
abbrev dktX5_isBoth_1 : List UInt8 := dkwX5_isBoth_1 ++ []
def dkwX5_isBoth_0 : List UInt8 := [42, 43, 182, 1, 32, 154, 0, 5, 3, 172, 42, 16, 25, 182, 1, 3, 153, 0, 24, 42, 43, 182, 1, 32]
abbrev dktX5_isBoth_0 : List UInt8 := dkwX5_isBoth_0 ++ dktX5_isBoth_1
theorem dksX5_isBoth_0 : cX5_isBoth.data.toList.drop 0 = dktX5_isBoth_0 := by decide +kernel
theorem dksX5_isBoth_1 : cX5_isBoth.data.toList.drop 24 = dktX5_isBoth_1 := dk_seg dksX5_isBoth_0 24 rfl rfl
theorem dX5_isBoth_0 : decode cX5_isBoth 0 = .ok (.aload_n 0, 1) := dk_42 (dk_at dksX5_isBoth_0 0 rfl rfl)
theorem dX5_isBoth_1 : decode cX5_isBoth 1 = .ok (.aload_n 1, 1) := dk_43 (dk_at dksX5_isBoth_0 1 rfl rfl)
theorem dX5_isBoth_2 : decode cX5_isBoth 2 = .ok (.invokevirtual 288, 3) := dk_182 1 32 (dk_at dksX5_isBoth_0 2 rfl rfl)
theorem dX5_isBoth_5 : decode cX5_isBoth 5 = .ok (.ifCond .ne 5, 3) := dk_154 0 5 (dk_at dksX5_isBoth_0 5 rfl rfl)
theorem dX5_isBoth_8 : decode cX5_isBoth 8 = .ok (.iconst 0, 1) := dk_3 (dk_at dksX5_isBoth_0 8 rfl rfl)
theorem dX5_isBoth_9 : decode cX5_isBoth 9 = .ok (.ireturn, 1) := dk_172 (dk_at dksX5_isBoth_0 9 rfl rfl)
theorem dX5_isBoth_10 : decode cX5_isBoth 10 = .ok (.aload_n 0, 1) := dk_42 (dk_at dksX5_isBoth_0 10 rfl rfl)
theorem dX5_isBoth_11 : decode cX5_isBoth 11 = .ok (.bipush 25, 2) := dk_16 25 (dk_at dksX5_isBoth_0 11 rfl rfl)
theorem dX5_isBoth_13 : decode cX5_isBoth 13 = .ok (.invokevirtual 259, 3) := dk_182 1 3 (dk_at dksX5_isBoth_0 13 rfl rfl)
theorem dX5_isBoth_16 : decode cX5_isBoth 16 = .ok (.ifCond .eq 24, 3) := dk_153 0 24 (dk_at dksX5_isBoth_0 16 rfl rfl)
theorem dX5_isBoth_19 : decode cX5_isBoth 19 = .ok (.aload_n 0, 1) := dk_42 (dk_at dksX5_isBoth_0 19 rfl rfl)
theorem dX5_isBoth_20 : decode cX5_isBoth 20 = .ok (.aload_n 1, 1) := dk_43 (dk_at dksX5_isBoth_0 20 rfl rfl)
theorem dX5_isBoth_21 : decode cX5_isBoth 21 = .ok (.invokevirtual 288, 3) := dk_182 1 32 (dk_at dksX5_isBoth_0 21 rfl rfl)
theorem dX5_isBoth_24 : decode cX5_isBoth 24 = .ok (.ifCond .ne 5, 3) := dk_154 0 5 (dk_at dksX5_isBoth_1 0 rfl rfl)
theorem dX5_isBoth_27 : decode cX5_isBoth 27 = .ok (.iconst 0, 1) := dk_3 (dk_at dksX5_isBoth_1 3 rfl rfl)
theorem dX5_isBoth_28 : decode cX5_isBoth 28 = .ok (.ireturn, 1) := dk_172 (dk_at dksX5_isBoth_1 4 rfl rfl)
theorem dX5_isBoth_29 : decode cX5_isBoth 29 = .ok (.aload_n 0, 1) := dk_42 (dk_at dksX5_isBoth_1 5 rfl rfl)
theorem dX5_isBoth_30 : decode cX5_isBoth 30 = .ok (.aload_n 1, 1) := dk_43 (dk_at dksX5_isBoth_1 6 rfl rfl)
theorem dX5_isBoth_31 : decode cX5_isBoth 31 = .ok (.bipush 25, 2) := dk_16 25 (dk_at dksX5_isBoth_1 7 rfl rfl)
theorem dX5_isBoth_33 : decode cX5_isBoth 33 = .ok (.iconst 0, 1) := dk_3 (dk_at dksX5_isBoth_1 9 rfl rfl)
theorem dX5_isBoth_34 : decode cX5_isBoth 34 = .ok (.invokevirtual 268, 3) := dk_182 1 12 (dk_at dksX5_isBoth_1 10 rfl rfl)
theorem dX5_isBoth_37 : decode cX5_isBoth 37 = .ok (.goto (-27), 3) := dk_167 255 229 (dk_at dksX5_isBoth_1 13 rfl rfl)
theorem dX5_isBoth_40 : decode cX5_isBoth 40 = .ok (.iconst 1, 1) := dk_4 (dk_at dksX5_isBoth_1 16 rfl rfl)
theorem dX5_isBoth_41 : decode cX5_isBoth 41 = .ok (.ireturn, 1) := dk_172 (dk_at dksX5_isBoth_1 17 rfl rfl)
abbrev cX5_isSingle : ByteArray := prog_46_method_58_code
def yX5_isSingle : MethodName := ⟨RX5, "isSingle", "(LSofaDigModel$Plan;)Z"⟩
def dkwX5_isSingle_5 : List UInt8 := [182, 1, 42, 167, 0, 8, 42, 43, 182, 1, 45, 172]
abbrev dktX5_isSingle_5 : List UInt8 := dkwX5_isSingle_5 ++ []
def dkwX5_isSingle_4 : List UInt8 := [16, 22, 160, 0, 12, 42, 43, 28, 182, 1, 38, 167, 0, 23, 28, 16, 23, 160, 0, 12, 42, 43, 28]
abbrev dktX5_isSingle_4 : List UInt8 := dkwX5_isSingle_4 ++ dktX5_isSingle_5
def dkwX5_isSingle_3 : List UInt8 := [42, 43, 182, 1, 35, 153, 0, 16, 42, 16, 93, 182, 1, 26, 153, 0, 7, 4, 167, 0, 4, 3, 172, 28]
abbrev dktX5_isSingle_3 : List UInt8 := dkwX5_isSingle_3 ++ dktX5_isSingle_4
def dkwX5_isSingle_2 : List UInt8 := [43, 16, 24, 3, 182, 1, 12, 4, 172, 28, 16, 91, 160, 0, 35, 42, 16, 91, 182, 1, 19, 153, 0, 24]
abbrev dktX5_isSingle_2 : List UInt8 := dkwX5_isSingle_2 ++ dktX5_isSingle_3
def dkwX5_isSingle_1 : List UInt8 := [153, 0, 11, 42, 43, 182, 1, 32, 154, 0, 5, 3, 172, 42, 89, 180, 1, 6, 4, 100, 181, 1, 6, 42]
abbrev dktX5_isSingle_1 : List UInt8 := dkwX5_isSingle_1 ++ dktX5_isSingle_2
def dkwX5_isSingle_0 : List UInt8 := [42, 180, 0, 24, 42, 180, 1, 0, 46, 61, 28, 16, 24, 160, 0, 42, 42, 16, 24, 182, 1, 19]
abbrev dktX5_isSingle_0 : List UInt8 := dkwX5_isSingle_0 ++ dktX5_isSingle_1
theorem dksX5_isSingle_0 : cX5_isSingle.data.toList.drop 0 = dktX5_isSingle_0 := by decide +kernel
theorem dksX5_isSingle_1 : cX5_isSingle.data.toList.drop 22 = dktX5_isSingle_1 := dk_seg dksX5_isSingle_0 22 rfl rfl
theorem dksX5_isSingle_2 : cX5_isSingle.data.toList.drop 46 = dktX5_isSingle_2 := dk_seg dksX5_isSingle_1 24 rfl rfl
theorem dksX5_isSingle_3 : cX5_isSingle.data.toList.drop 70 = dktX5_isSingle_3 := dk_seg dksX5_isSingle_2 24 rfl rfl
theorem dksX5_isSingle_4 : cX5_isSingle.data.toList.drop 94 = dktX5_isSingle_4 := dk_seg dksX5_isSingle_3 24 rfl rfl
theorem dksX5_isSingle_5 : cX5_isSingle.data.toList.drop 117 = dktX5_isSingle_5 := dk_seg dksX5_isSingle_4 23 rfl rfl
theorem dX5_isSingle_0 : decode cX5_isSingle 0 = .ok (.aload_n 0, 1) := dk_42 (dk_at dksX5_isSingle_0 0 rfl rfl)
theorem dX5_isSingle_1 : decode cX5_isSingle 1 = .ok (.getfield 24, 3) := dk_180 0 24 (dk_at dksX5_isSingle_0 1 rfl rfl)
theorem dX5_isSingle_4 : decode cX5_isSingle 4 = .ok (.aload_n 0, 1) := dk_42 (dk_at dksX5_isSingle_0 4 rfl rfl)
theorem dX5_isSingle_5 : decode cX5_isSingle 5 = .ok (.getfield 256, 3) := dk_180 1 0 (dk_at dksX5_isSingle_0 5 rfl rfl)
theorem dX5_isSingle_8 : decode cX5_isSingle 8 = .ok (.iaload, 1) := dk_46 (dk_at dksX5_isSingle_0 8 rfl rfl)
theorem dX5_isSingle_9 : decode cX5_isSingle 9 = .ok (.istore_n 2, 1) := dk_61 (dk_at dksX5_isSingle_0 9 rfl rfl)
theorem dX5_isSingle_10 : decode cX5_isSingle 10 = .ok (.iload_n 2, 1) := dk_28 (dk_at dksX5_isSingle_0 10 rfl rfl)
theorem dX5_isSingle_11 : decode cX5_isSingle 11 = .ok (.bipush 24, 2) := dk_16 24 (dk_at dksX5_isSingle_0 11 rfl rfl)
theorem dX5_isSingle_13 : decode cX5_isSingle 13 = .ok (.if_icmp .ne 42, 3) := dk_160 0 42 (dk_at dksX5_isSingle_0 13 rfl rfl)
theorem dX5_isSingle_16 : decode cX5_isSingle 16 = .ok (.aload_n 0, 1) := dk_42 (dk_at dksX5_isSingle_0 16 rfl rfl)
theorem dX5_isSingle_17 : decode cX5_isSingle 17 = .ok (.bipush 24, 2) := dk_16 24 (dk_at dksX5_isSingle_0 17 rfl rfl)
theorem dX5_isSingle_19 : decode cX5_isSingle 19 = .ok (.invokevirtual 275, 3) := dk_182 1 19 (dk_at dksX5_isSingle_0 19 rfl rfl)
theorem dX5_isSingle_22 : decode cX5_isSingle 22 = .ok (.ifCond .eq 11, 3) := dk_153 0 11 (dk_at dksX5_isSingle_1 0 rfl rfl)
theorem dX5_isSingle_25 : decode cX5_isSingle 25 = .ok (.aload_n 0, 1) := dk_42 (dk_at dksX5_isSingle_1 3 rfl rfl)
theorem dX5_isSingle_26 : decode cX5_isSingle 26 = .ok (.aload_n 1, 1) := dk_43 (dk_at dksX5_isSingle_1 4 rfl rfl)
theorem dX5_isSingle_27 : decode cX5_isSingle 27 = .ok (.invokevirtual 288, 3) := dk_182 1 32 (dk_at dksX5_isSingle_1 5 rfl rfl)
theorem dX5_isSingle_30 : decode cX5_isSingle 30 = .ok (.ifCond .ne 5, 3) := dk_154 0 5 (dk_at dksX5_isSingle_1 8 rfl rfl)
theorem dX5_isSingle_33 : decode cX5_isSingle 33 = .ok (.iconst 0, 1) := dk_3 (dk_at dksX5_isSingle_1 11 rfl rfl)
theorem dX5_isSingle_34 : decode cX5_isSingle 34 = .ok (.ireturn, 1) := dk_172 (dk_at dksX5_isSingle_1 12 rfl rfl)
theorem dX5_isSingle_35 : decode cX5_isSingle 35 = .ok (.aload_n 0, 1) := dk_42 (dk_at dksX5_isSingle_1 13 rfl rfl)
theorem dX5_isSingle_36 : decode cX5_isSingle 36 = .ok (.dup, 1) := dk_89 (dk_at dksX5_isSingle_1 14 rfl rfl)
theorem dX5_isSingle_37 : decode cX5_isSingle 37 = .ok (.getfield 262, 3) := dk_180 1 6 (dk_at dksX5_isSingle_1 15 rfl rfl)
theorem dX5_isSingle_40 : decode cX5_isSingle 40 = .ok (.iconst 1, 1) := dk_4 (dk_at dksX5_isSingle_1 18 rfl rfl)
theorem dX5_isSingle_41 : decode cX5_isSingle 41 = .ok (.isub, 1) := dk_100 (dk_at dksX5_isSingle_1 19 rfl rfl)
theorem dX5_isSingle_42 : decode cX5_isSingle 42 = .ok (.putfield 262, 3) := dk_181 1 6 (dk_at dksX5_isSingle_1 20 rfl rfl)
theorem dX5_isSingle_45 : decode cX5_isSingle 45 = .ok (.aload_n 0, 1) := dk_42 (dk_at dksX5_isSingle_1 23 rfl rfl)
theorem dX5_isSingle_46 : decode cX5_isSingle 46 = .ok (.aload_n 1, 1) := dk_43 (dk_at dksX5_isSingle_2 0 rfl rfl)
theorem dX5_isSingle_47 : decode cX5_isSingle 47 = .ok (.bipush 24, 2) := dk_16 24 (dk_at dksX5_isSingle_2 1 rfl rfl)
theorem dX5_isSingle_49 : decode cX5_isSingle 49 = .ok (.iconst 0, 1) := dk_3 (dk_at dksX5_isSingle_2 3 rfl rfl)
theorem dX5_isSingle_50 : decode cX5_isSingle 50 = .ok (.invokevirtual 268, 3) := dk_182 1 12 (dk_at dksX5_isSingle_2 4 rfl rfl)
theorem dX5_isSingle_53 : decode cX5_isSingle 53 = .ok (.iconst 1, 1) := dk_4 (dk_at dksX5_isSingle_2 7 rfl rfl)
theorem dX5_isSingle_54 : decode cX5_isSingle 54 = .ok (.ireturn, 1) := dk_172 (dk_at dksX5_isSingle_2 8 rfl rfl)
theorem dX5_isSingle_55 : decode cX5_isSingle 55 = .ok (.iload_n 2, 1) := dk_28 (dk_at dksX5_isSingle_2 9 rfl rfl)
theorem dX5_isSingle_56 : decode cX5_isSingle 56 = .ok (.bipush 91, 2) := dk_16 91 (dk_at dksX5_isSingle_2 10 rfl rfl)
theorem dX5_isSingle_58 : decode cX5_isSingle 58 = .ok (.if_icmp .ne 35, 3) := dk_160 0 35 (dk_at dksX5_isSingle_2 12 rfl rfl)
theorem dX5_isSingle_61 : decode cX5_isSingle 61 = .ok (.aload_n 0, 1) := dk_42 (dk_at dksX5_isSingle_2 15 rfl rfl)
theorem dX5_isSingle_62 : decode cX5_isSingle 62 = .ok (.bipush 91, 2) := dk_16 91 (dk_at dksX5_isSingle_2 16 rfl rfl)
theorem dX5_isSingle_64 : decode cX5_isSingle 64 = .ok (.invokevirtual 275, 3) := dk_182 1 19 (dk_at dksX5_isSingle_2 18 rfl rfl)
theorem dX5_isSingle_67 : decode cX5_isSingle 67 = .ok (.ifCond .eq 24, 3) := dk_153 0 24 (dk_at dksX5_isSingle_2 21 rfl rfl)
theorem dX5_isSingle_70 : decode cX5_isSingle 70 = .ok (.aload_n 0, 1) := dk_42 (dk_at dksX5_isSingle_3 0 rfl rfl)
theorem dX5_isSingle_71 : decode cX5_isSingle 71 = .ok (.aload_n 1, 1) := dk_43 (dk_at dksX5_isSingle_3 1 rfl rfl)
theorem dX5_isSingle_72 : decode cX5_isSingle 72 = .ok (.invokevirtual 291, 3) := dk_182 1 35 (dk_at dksX5_isSingle_3 2 rfl rfl)
theorem dX5_isSingle_75 : decode cX5_isSingle 75 = .ok (.ifCond .eq 16, 3) := dk_153 0 16 (dk_at dksX5_isSingle_3 5 rfl rfl)
theorem dX5_isSingle_78 : decode cX5_isSingle 78 = .ok (.aload_n 0, 1) := dk_42 (dk_at dksX5_isSingle_3 8 rfl rfl)
theorem dX5_isSingle_79 : decode cX5_isSingle 79 = .ok (.bipush 93, 2) := dk_16 93 (dk_at dksX5_isSingle_3 9 rfl rfl)
theorem dX5_isSingle_81 : decode cX5_isSingle 81 = .ok (.invokevirtual 282, 3) := dk_182 1 26 (dk_at dksX5_isSingle_3 11 rfl rfl)
theorem dX5_isSingle_84 : decode cX5_isSingle 84 = .ok (.ifCond .eq 7, 3) := dk_153 0 7 (dk_at dksX5_isSingle_3 14 rfl rfl)
theorem dX5_isSingle_87 : decode cX5_isSingle 87 = .ok (.iconst 1, 1) := dk_4 (dk_at dksX5_isSingle_3 17 rfl rfl)
theorem dX5_isSingle_88 : decode cX5_isSingle 88 = .ok (.goto 4, 3) := dk_167 0 4 (dk_at dksX5_isSingle_3 18 rfl rfl)
theorem dX5_isSingle_91 : decode cX5_isSingle 91 = .ok (.iconst 0, 1) := dk_3 (dk_at dksX5_isSingle_3 21 rfl rfl)
theorem dX5_isSingle_92 : decode cX5_isSingle 92 = .ok (.ireturn, 1) := dk_172 (dk_at dksX5_isSingle_3 22 rfl rfl)
theorem dX5_isSingle_93 : decode cX5_isSingle 93 = .ok (.iload_n 2, 1) := dk_28 (dk_at dksX5_isSingle_3 23 rfl rfl)
theorem dX5_isSingle_94 : decode cX5_isSingle 94 = .ok (.bipush 22, 2) := dk_16 22 (dk_at dksX5_isSingle_4 0 rfl rfl)
theorem dX5_isSingle_96 : decode cX5_isSingle 96 = .ok (.if_icmp .ne 12, 3) := dk_160 0 12 (dk_at dksX5_isSingle_4 2 rfl rfl)
theorem dX5_isSingle_99 : decode cX5_isSingle 99 = .ok (.aload_n 0, 1) := dk_42 (dk_at dksX5_isSingle_4 5 rfl rfl)
theorem dX5_isSingle_100 : decode cX5_isSingle 100 = .ok (.aload_n 1, 1) := dk_43 (dk_at dksX5_isSingle_4 6 rfl rfl)
theorem dX5_isSingle_101 : decode cX5_isSingle 101 = .ok (.iload_n 2, 1) := dk_28 (dk_at dksX5_isSingle_4 7 rfl rfl)
theorem dX5_isSingle_102 : decode cX5_isSingle 102 = .ok (.invokevirtual 294, 3) := dk_182 1 38 (dk_at dksX5_isSingle_4 8 rfl rfl)
theorem dX5_isSingle_105 : decode cX5_isSingle 105 = .ok (.goto 23, 3) := dk_167 0 23 (dk_at dksX5_isSingle_4 11 rfl rfl)
theorem dX5_isSingle_108 : decode cX5_isSingle 108 = .ok (.iload_n 2, 1) := dk_28 (dk_at dksX5_isSingle_4 14 rfl rfl)
theorem dX5_isSingle_109 : decode cX5_isSingle 109 = .ok (.bipush 23, 2) := dk_16 23 (dk_at dksX5_isSingle_4 15 rfl rfl)
theorem dX5_isSingle_111 : decode cX5_isSingle 111 = .ok (.if_icmp .ne 12, 3) := dk_160 0 12 (dk_at dksX5_isSingle_4 17 rfl rfl)
theorem dX5_isSingle_114 : decode cX5_isSingle 114 = .ok (.aload_n 0, 1) := dk_42 (dk_at dksX5_isSingle_4 20 rfl rfl)
theorem dX5_isSingle_115 : decode cX5_isSingle 115 = .ok (.aload_n 1, 1) := dk_43 (dk_at dksX5_isSingle_4 21 rfl rfl)
theorem dX5_isSingle_116 : decode cX5_isSingle 116 = .ok (.iload_n 2, 1) := dk_28 (dk_at dksX5_isSingle_4 22 rfl rfl)
theorem dX5_isSingle_117 : decode cX5_isSingle 117 = .ok (.invokevirtual 298, 3) := dk_182 1 42 (dk_at dksX5_isSingle_5 0 rfl rfl)
theorem dX5_isSingle_120 : decode cX5_isSingle 120 = .ok (.goto 8, 3) := dk_167 0 8 (dk_at dksX5_isSingle_5 3 rfl rfl)
theorem dX5_isSingle_123 : decode cX5_isSingle 123 = .ok (.aload_n 0, 1) := dk_42 (dk_at dksX5_isSingle_5 6 rfl rfl)
theorem dX5_isSingle_124 : decode cX5_isSingle 124 = .ok (.aload_n 1, 1) := dk_43 (dk_at dksX5_isSingle_5 7 rfl rfl)
theorem dX5_isSingle_125 : decode cX5_isSingle 125 = .ok (.invokevirtual 301, 3) := dk_182 1 45 (dk_at dksX5_isSingle_5 8 rfl rfl)
theorem dX5_isSingle_128 : decode cX5_isSingle 128 = .ok (.ireturn, 1) := dk_172 (dk_at dksX5_isSingle_5 11 rfl rfl)
abbrev cX5_isCompare : ByteArray := prog_46_method_59_code
def yX5_isCompare : MethodName := ⟨RX5, "isCompare", "(LSofaDigModel$Plan;)Z"⟩
def dkwX5_isCompare_4 : List UInt8 := [181, 1, 0, 42, 43, 182, 1, 22, 154, 0, 5, 3, 172, 42, 43, 29, 3, 182, 1, 12, 4, 172]
abbrev dktX5_isCompare_4 : List UInt8 := dkwX5_isCompare_4 ++ []
def dkwX5_isCompare_3 : List UInt8 := [160, 0, 8, 16, 110, 167, 0, 4, 2, 62, 29, 2, 160, 0, 5, 3, 172, 42, 89, 180, 1, 0, 4, 96]
abbrev dktX5_isCompare_3 : List UInt8 := dkwX5_isCompare_3 ++ dktX5_isCompare_4
def dkwX5_isCompare_2 : List UInt8 := [160, 0, 8, 16, 108, 167, 0, 28, 28, 17, 1, 60, 160, 0, 8, 16, 109, 167, 0, 16, 28, 17, 1, 62]
abbrev dktX5_isCompare_2 : List UInt8 := dkwX5_isCompare_2 ++ dktX5_isCompare_3
def dkwX5_isCompare_1 : List UInt8 := [160, 0, 8, 16, 106, 167, 0, 50, 28, 16, 62, 160, 0, 8, 16, 107, 167, 0, 39, 28, 16, 61]
abbrev dktX5_isCompare_1 : List UInt8 := dkwX5_isCompare_1 ++ dktX5_isCompare_2
def dkwX5_isCompare_0 : List UInt8 := [42, 43, 182, 1, 22, 154, 0, 5, 3, 172, 42, 180, 0, 24, 42, 180, 1, 0, 46, 61, 28, 16, 60]
abbrev dktX5_isCompare_0 : List UInt8 := dkwX5_isCompare_0 ++ dktX5_isCompare_1
theorem dksX5_isCompare_0 : cX5_isCompare.data.toList.drop 0 = dktX5_isCompare_0 := by decide +kernel
theorem dksX5_isCompare_1 : cX5_isCompare.data.toList.drop 23 = dktX5_isCompare_1 := dk_seg dksX5_isCompare_0 23 rfl rfl
theorem dksX5_isCompare_2 : cX5_isCompare.data.toList.drop 45 = dktX5_isCompare_2 := dk_seg dksX5_isCompare_1 22 rfl rfl
theorem dksX5_isCompare_3 : cX5_isCompare.data.toList.drop 69 = dktX5_isCompare_3 := dk_seg dksX5_isCompare_2 24 rfl rfl
theorem dksX5_isCompare_4 : cX5_isCompare.data.toList.drop 93 = dktX5_isCompare_4 := dk_seg dksX5_isCompare_3 24 rfl rfl
theorem dX5_isCompare_0 : decode cX5_isCompare 0 = .ok (.aload_n 0, 1) := dk_42 (dk_at dksX5_isCompare_0 0 rfl rfl)
theorem dX5_isCompare_1 : decode cX5_isCompare 1 = .ok (.aload_n 1, 1) := dk_43 (dk_at dksX5_isCompare_0 1 rfl rfl)
theorem dX5_isCompare_2 : decode cX5_isCompare 2 = .ok (.invokevirtual 278, 3) := dk_182 1 22 (dk_at dksX5_isCompare_0 2 rfl rfl)
theorem dX5_isCompare_5 : decode cX5_isCompare 5 = .ok (.ifCond .ne 5, 3) := dk_154 0 5 (dk_at dksX5_isCompare_0 5 rfl rfl)
theorem dX5_isCompare_8 : decode cX5_isCompare 8 = .ok (.iconst 0, 1) := dk_3 (dk_at dksX5_isCompare_0 8 rfl rfl)
theorem dX5_isCompare_9 : decode cX5_isCompare 9 = .ok (.ireturn, 1) := dk_172 (dk_at dksX5_isCompare_0 9 rfl rfl)
theorem dX5_isCompare_10 : decode cX5_isCompare 10 = .ok (.aload_n 0, 1) := dk_42 (dk_at dksX5_isCompare_0 10 rfl rfl)
theorem dX5_isCompare_11 : decode cX5_isCompare 11 = .ok (.getfield 24, 3) := dk_180 0 24 (dk_at dksX5_isCompare_0 11 rfl rfl)
theorem dX5_isCompare_14 : decode cX5_isCompare 14 = .ok (.aload_n 0, 1) := dk_42 (dk_at dksX5_isCompare_0 14 rfl rfl)
theorem dX5_isCompare_15 : decode cX5_isCompare 15 = .ok (.getfield 256, 3) := dk_180 1 0 (dk_at dksX5_isCompare_0 15 rfl rfl)
theorem dX5_isCompare_18 : decode cX5_isCompare 18 = .ok (.iaload, 1) := dk_46 (dk_at dksX5_isCompare_0 18 rfl rfl)
theorem dX5_isCompare_19 : decode cX5_isCompare 19 = .ok (.istore_n 2, 1) := dk_61 (dk_at dksX5_isCompare_0 19 rfl rfl)
theorem dX5_isCompare_20 : decode cX5_isCompare 20 = .ok (.iload_n 2, 1) := dk_28 (dk_at dksX5_isCompare_0 20 rfl rfl)
theorem dX5_isCompare_21 : decode cX5_isCompare 21 = .ok (.bipush 60, 2) := dk_16 60 (dk_at dksX5_isCompare_0 21 rfl rfl)
theorem dX5_isCompare_23 : decode cX5_isCompare 23 = .ok (.if_icmp .ne 8, 3) := dk_160 0 8 (dk_at dksX5_isCompare_1 0 rfl rfl)
theorem dX5_isCompare_26 : decode cX5_isCompare 26 = .ok (.bipush 106, 2) := dk_16 106 (dk_at dksX5_isCompare_1 3 rfl rfl)
theorem dX5_isCompare_28 : decode cX5_isCompare 28 = .ok (.goto 50, 3) := dk_167 0 50 (dk_at dksX5_isCompare_1 5 rfl rfl)
theorem dX5_isCompare_31 : decode cX5_isCompare 31 = .ok (.iload_n 2, 1) := dk_28 (dk_at dksX5_isCompare_1 8 rfl rfl)
theorem dX5_isCompare_32 : decode cX5_isCompare 32 = .ok (.bipush 62, 2) := dk_16 62 (dk_at dksX5_isCompare_1 9 rfl rfl)
theorem dX5_isCompare_34 : decode cX5_isCompare 34 = .ok (.if_icmp .ne 8, 3) := dk_160 0 8 (dk_at dksX5_isCompare_1 11 rfl rfl)
theorem dX5_isCompare_37 : decode cX5_isCompare 37 = .ok (.bipush 107, 2) := dk_16 107 (dk_at dksX5_isCompare_1 14 rfl rfl)
theorem dX5_isCompare_39 : decode cX5_isCompare 39 = .ok (.goto 39, 3) := dk_167 0 39 (dk_at dksX5_isCompare_1 16 rfl rfl)
theorem dX5_isCompare_42 : decode cX5_isCompare 42 = .ok (.iload_n 2, 1) := dk_28 (dk_at dksX5_isCompare_1 19 rfl rfl)
theorem dX5_isCompare_43 : decode cX5_isCompare 43 = .ok (.bipush 61, 2) := dk_16 61 (dk_at dksX5_isCompare_1 20 rfl rfl)
theorem dX5_isCompare_45 : decode cX5_isCompare 45 = .ok (.if_icmp .ne 8, 3) := dk_160 0 8 (dk_at dksX5_isCompare_2 0 rfl rfl)
theorem dX5_isCompare_48 : decode cX5_isCompare 48 = .ok (.bipush 108, 2) := dk_16 108 (dk_at dksX5_isCompare_2 3 rfl rfl)
theorem dX5_isCompare_50 : decode cX5_isCompare 50 = .ok (.goto 28, 3) := dk_167 0 28 (dk_at dksX5_isCompare_2 5 rfl rfl)
theorem dX5_isCompare_53 : decode cX5_isCompare 53 = .ok (.iload_n 2, 1) := dk_28 (dk_at dksX5_isCompare_2 8 rfl rfl)
theorem dX5_isCompare_54 : decode cX5_isCompare 54 = .ok (.sipush 316, 3) := dk_17 1 60 (dk_at dksX5_isCompare_2 9 rfl rfl)
theorem dX5_isCompare_57 : decode cX5_isCompare 57 = .ok (.if_icmp .ne 8, 3) := dk_160 0 8 (dk_at dksX5_isCompare_2 12 rfl rfl)
theorem dX5_isCompare_60 : decode cX5_isCompare 60 = .ok (.bipush 109, 2) := dk_16 109 (dk_at dksX5_isCompare_2 15 rfl rfl)
theorem dX5_isCompare_62 : decode cX5_isCompare 62 = .ok (.goto 16, 3) := dk_167 0 16 (dk_at dksX5_isCompare_2 17 rfl rfl)
theorem dX5_isCompare_65 : decode cX5_isCompare 65 = .ok (.iload_n 2, 1) := dk_28 (dk_at dksX5_isCompare_2 20 rfl rfl)
theorem dX5_isCompare_66 : decode cX5_isCompare 66 = .ok (.sipush 318, 3) := dk_17 1 62 (dk_at dksX5_isCompare_2 21 rfl rfl)
theorem dX5_isCompare_69 : decode cX5_isCompare 69 = .ok (.if_icmp .ne 8, 3) := dk_160 0 8 (dk_at dksX5_isCompare_3 0 rfl rfl)
theorem dX5_isCompare_72 : decode cX5_isCompare 72 = .ok (.bipush 110, 2) := dk_16 110 (dk_at dksX5_isCompare_3 3 rfl rfl)
theorem dX5_isCompare_74 : decode cX5_isCompare 74 = .ok (.goto 4, 3) := dk_167 0 4 (dk_at dksX5_isCompare_3 5 rfl rfl)
theorem dX5_isCompare_77 : decode cX5_isCompare 77 = .ok (.iconst (-1), 1) := dk_2 (dk_at dksX5_isCompare_3 8 rfl rfl)
theorem dX5_isCompare_78 : decode cX5_isCompare 78 = .ok (.istore_n 3, 1) := dk_62 (dk_at dksX5_isCompare_3 9 rfl rfl)
theorem dX5_isCompare_79 : decode cX5_isCompare 79 = .ok (.iload_n 3, 1) := dk_29 (dk_at dksX5_isCompare_3 10 rfl rfl)
theorem dX5_isCompare_80 : decode cX5_isCompare 80 = .ok (.iconst (-1), 1) := dk_2 (dk_at dksX5_isCompare_3 11 rfl rfl)
theorem dX5_isCompare_81 : decode cX5_isCompare 81 = .ok (.if_icmp .ne 5, 3) := dk_160 0 5 (dk_at dksX5_isCompare_3 12 rfl rfl)
theorem dX5_isCompare_84 : decode cX5_isCompare 84 = .ok (.iconst 0, 1) := dk_3 (dk_at dksX5_isCompare_3 15 rfl rfl)
theorem dX5_isCompare_85 : decode cX5_isCompare 85 = .ok (.ireturn, 1) := dk_172 (dk_at dksX5_isCompare_3 16 rfl rfl)
theorem dX5_isCompare_86 : decode cX5_isCompare 86 = .ok (.aload_n 0, 1) := dk_42 (dk_at dksX5_isCompare_3 17 rfl rfl)
theorem dX5_isCompare_87 : decode cX5_isCompare 87 = .ok (.dup, 1) := dk_89 (dk_at dksX5_isCompare_3 18 rfl rfl)
theorem dX5_isCompare_88 : decode cX5_isCompare 88 = .ok (.getfield 256, 3) := dk_180 1 0 (dk_at dksX5_isCompare_3 19 rfl rfl)
theorem dX5_isCompare_91 : decode cX5_isCompare 91 = .ok (.iconst 1, 1) := dk_4 (dk_at dksX5_isCompare_3 22 rfl rfl)
theorem dX5_isCompare_92 : decode cX5_isCompare 92 = .ok (.iadd, 1) := dk_96 (dk_at dksX5_isCompare_3 23 rfl rfl)
theorem dX5_isCompare_93 : decode cX5_isCompare 93 = .ok (.putfield 256, 3) := dk_181 1 0 (dk_at dksX5_isCompare_4 0 rfl rfl)
theorem dX5_isCompare_96 : decode cX5_isCompare 96 = .ok (.aload_n 0, 1) := dk_42 (dk_at dksX5_isCompare_4 3 rfl rfl)
theorem dX5_isCompare_97 : decode cX5_isCompare 97 = .ok (.aload_n 1, 1) := dk_43 (dk_at dksX5_isCompare_4 4 rfl rfl)
theorem dX5_isCompare_98 : decode cX5_isCompare 98 = .ok (.invokevirtual 278, 3) := dk_182 1 22 (dk_at dksX5_isCompare_4 5 rfl rfl)
theorem dX5_isCompare_101 : decode cX5_isCompare 101 = .ok (.ifCond .ne 5, 3) := dk_154 0 5 (dk_at dksX5_isCompare_4 8 rfl rfl)
theorem dX5_isCompare_104 : decode cX5_isCompare 104 = .ok (.iconst 0, 1) := dk_3 (dk_at dksX5_isCompare_4 11 rfl rfl)
theorem dX5_isCompare_105 : decode cX5_isCompare 105 = .ok (.ireturn, 1) := dk_172 (dk_at dksX5_isCompare_4 12 rfl rfl)
theorem dX5_isCompare_106 : decode cX5_isCompare 106 = .ok (.aload_n 0, 1) := dk_42 (dk_at dksX5_isCompare_4 13 rfl rfl)
theorem dX5_isCompare_107 : decode cX5_isCompare 107 = .ok (.aload_n 1, 1) := dk_43 (dk_at dksX5_isCompare_4 14 rfl rfl)
theorem dX5_isCompare_108 : decode cX5_isCompare 108 = .ok (.iload_n 3, 1) := dk_29 (dk_at dksX5_isCompare_4 15 rfl rfl)
theorem dX5_isCompare_109 : decode cX5_isCompare 109 = .ok (.iconst 0, 1) := dk_3 (dk_at dksX5_isCompare_4 16 rfl rfl)
theorem dX5_isCompare_110 : decode cX5_isCompare 110 = .ok (.invokevirtual 268, 3) := dk_182 1 12 (dk_at dksX5_isCompare_4 17 rfl rfl)
theorem dX5_isCompare_113 : decode cX5_isCompare 113 = .ok (.iconst 1, 1) := dk_4 (dk_at dksX5_isCompare_4 20 rfl rfl)
theorem dX5_isCompare_114 : decode cX5_isCompare 114 = .ok (.ireturn, 1) := dk_172 (dk_at dksX5_isCompare_4 21 rfl rfl)
abbrev cX5_isSum : ByteArray := prog_46_method_60_code
def yX5_isSum : MethodName := ⟨RX5, "isSum", "(LSofaDigModel$Plan;)Z"⟩
def dkwX5_isSum_3 : List UInt8 := [43, 182, 1, 48, 154, 0, 5, 3, 172, 42, 43, 28, 3, 182, 1, 12, 167, 255, 179, 4, 172]
abbrev dktX5_isSum_3 : List UInt8 := dkwX5_isSum_3 ++ []
def dkwX5_isSum_2 : List UInt8 := [16, 43, 160, 0, 8, 16, 101, 167, 0, 5, 16, 102, 61, 42, 89, 180, 1, 0, 4, 96, 181, 1, 0, 42]
abbrev dktX5_isSum_2 : List UInt8 := dkwX5_isSum_2 ++ dktX5_isSum_3
def dkwX5_isSum_1 : List UInt8 := [42, 180, 0, 24, 42, 180, 1, 0, 46, 16, 45, 160, 0, 55, 42, 180, 0, 24, 42, 180, 1, 0, 46]
abbrev dktX5_isSum_1 : List UInt8 := dkwX5_isSum_1 ++ dktX5_isSum_2
def dkwX5_isSum_0 : List UInt8 := [42, 43, 182, 1, 48, 154, 0, 5, 3, 172, 42, 180, 0, 24, 42, 180, 1, 0, 46, 16, 43, 159, 0, 17]
abbrev dktX5_isSum_0 : List UInt8 := dkwX5_isSum_0 ++ dktX5_isSum_1
theorem dksX5_isSum_0 : cX5_isSum.data.toList.drop 0 = dktX5_isSum_0 := by decide +kernel
theorem dksX5_isSum_1 : cX5_isSum.data.toList.drop 24 = dktX5_isSum_1 := dk_seg dksX5_isSum_0 24 rfl rfl
theorem dksX5_isSum_2 : cX5_isSum.data.toList.drop 47 = dktX5_isSum_2 := dk_seg dksX5_isSum_1 23 rfl rfl
theorem dksX5_isSum_3 : cX5_isSum.data.toList.drop 71 = dktX5_isSum_3 := dk_seg dksX5_isSum_2 24 rfl rfl
theorem dX5_isSum_0 : decode cX5_isSum 0 = .ok (.aload_n 0, 1) := dk_42 (dk_at dksX5_isSum_0 0 rfl rfl)
theorem dX5_isSum_1 : decode cX5_isSum 1 = .ok (.aload_n 1, 1) := dk_43 (dk_at dksX5_isSum_0 1 rfl rfl)
theorem dX5_isSum_2 : decode cX5_isSum 2 = .ok (.invokevirtual 304, 3) := dk_182 1 48 (dk_at dksX5_isSum_0 2 rfl rfl)
theorem dX5_isSum_5 : decode cX5_isSum 5 = .ok (.ifCond .ne 5, 3) := dk_154 0 5 (dk_at dksX5_isSum_0 5 rfl rfl)
theorem dX5_isSum_8 : decode cX5_isSum 8 = .ok (.iconst 0, 1) := dk_3 (dk_at dksX5_isSum_0 8 rfl rfl)
theorem dX5_isSum_9 : decode cX5_isSum 9 = .ok (.ireturn, 1) := dk_172 (dk_at dksX5_isSum_0 9 rfl rfl)
theorem dX5_isSum_10 : decode cX5_isSum 10 = .ok (.aload_n 0, 1) := dk_42 (dk_at dksX5_isSum_0 10 rfl rfl)
theorem dX5_isSum_11 : decode cX5_isSum 11 = .ok (.getfield 24, 3) := dk_180 0 24 (dk_at dksX5_isSum_0 11 rfl rfl)
theorem dX5_isSum_14 : decode cX5_isSum 14 = .ok (.aload_n 0, 1) := dk_42 (dk_at dksX5_isSum_0 14 rfl rfl)
theorem dX5_isSum_15 : decode cX5_isSum 15 = .ok (.getfield 256, 3) := dk_180 1 0 (dk_at dksX5_isSum_0 15 rfl rfl)
theorem dX5_isSum_18 : decode cX5_isSum 18 = .ok (.iaload, 1) := dk_46 (dk_at dksX5_isSum_0 18 rfl rfl)
theorem dX5_isSum_19 : decode cX5_isSum 19 = .ok (.bipush 43, 2) := dk_16 43 (dk_at dksX5_isSum_0 19 rfl rfl)
theorem dX5_isSum_21 : decode cX5_isSum 21 = .ok (.if_icmp .eq 17, 3) := dk_159 0 17 (dk_at dksX5_isSum_0 21 rfl rfl)
theorem dX5_isSum_24 : decode cX5_isSum 24 = .ok (.aload_n 0, 1) := dk_42 (dk_at dksX5_isSum_1 0 rfl rfl)
theorem dX5_isSum_25 : decode cX5_isSum 25 = .ok (.getfield 24, 3) := dk_180 0 24 (dk_at dksX5_isSum_1 1 rfl rfl)
theorem dX5_isSum_28 : decode cX5_isSum 28 = .ok (.aload_n 0, 1) := dk_42 (dk_at dksX5_isSum_1 4 rfl rfl)
theorem dX5_isSum_29 : decode cX5_isSum 29 = .ok (.getfield 256, 3) := dk_180 1 0 (dk_at dksX5_isSum_1 5 rfl rfl)
theorem dX5_isSum_32 : decode cX5_isSum 32 = .ok (.iaload, 1) := dk_46 (dk_at dksX5_isSum_1 8 rfl rfl)
theorem dX5_isSum_33 : decode cX5_isSum 33 = .ok (.bipush 45, 2) := dk_16 45 (dk_at dksX5_isSum_1 9 rfl rfl)
theorem dX5_isSum_35 : decode cX5_isSum 35 = .ok (.if_icmp .ne 55, 3) := dk_160 0 55 (dk_at dksX5_isSum_1 11 rfl rfl)
theorem dX5_isSum_38 : decode cX5_isSum 38 = .ok (.aload_n 0, 1) := dk_42 (dk_at dksX5_isSum_1 14 rfl rfl)
theorem dX5_isSum_39 : decode cX5_isSum 39 = .ok (.getfield 24, 3) := dk_180 0 24 (dk_at dksX5_isSum_1 15 rfl rfl)
theorem dX5_isSum_42 : decode cX5_isSum 42 = .ok (.aload_n 0, 1) := dk_42 (dk_at dksX5_isSum_1 18 rfl rfl)
theorem dX5_isSum_43 : decode cX5_isSum 43 = .ok (.getfield 256, 3) := dk_180 1 0 (dk_at dksX5_isSum_1 19 rfl rfl)
theorem dX5_isSum_46 : decode cX5_isSum 46 = .ok (.iaload, 1) := dk_46 (dk_at dksX5_isSum_1 22 rfl rfl)
theorem dX5_isSum_47 : decode cX5_isSum 47 = .ok (.bipush 43, 2) := dk_16 43 (dk_at dksX5_isSum_2 0 rfl rfl)
theorem dX5_isSum_49 : decode cX5_isSum 49 = .ok (.if_icmp .ne 8, 3) := dk_160 0 8 (dk_at dksX5_isSum_2 2 rfl rfl)
theorem dX5_isSum_52 : decode cX5_isSum 52 = .ok (.bipush 101, 2) := dk_16 101 (dk_at dksX5_isSum_2 5 rfl rfl)
theorem dX5_isSum_54 : decode cX5_isSum 54 = .ok (.goto 5, 3) := dk_167 0 5 (dk_at dksX5_isSum_2 7 rfl rfl)
theorem dX5_isSum_57 : decode cX5_isSum 57 = .ok (.bipush 102, 2) := dk_16 102 (dk_at dksX5_isSum_2 10 rfl rfl)
theorem dX5_isSum_59 : decode cX5_isSum 59 = .ok (.istore_n 2, 1) := dk_61 (dk_at dksX5_isSum_2 12 rfl rfl)
theorem dX5_isSum_60 : decode cX5_isSum 60 = .ok (.aload_n 0, 1) := dk_42 (dk_at dksX5_isSum_2 13 rfl rfl)
theorem dX5_isSum_61 : decode cX5_isSum 61 = .ok (.dup, 1) := dk_89 (dk_at dksX5_isSum_2 14 rfl rfl)
theorem dX5_isSum_62 : decode cX5_isSum 62 = .ok (.getfield 256, 3) := dk_180 1 0 (dk_at dksX5_isSum_2 15 rfl rfl)
theorem dX5_isSum_65 : decode cX5_isSum 65 = .ok (.iconst 1, 1) := dk_4 (dk_at dksX5_isSum_2 18 rfl rfl)
theorem dX5_isSum_66 : decode cX5_isSum 66 = .ok (.iadd, 1) := dk_96 (dk_at dksX5_isSum_2 19 rfl rfl)
theorem dX5_isSum_67 : decode cX5_isSum 67 = .ok (.putfield 256, 3) := dk_181 1 0 (dk_at dksX5_isSum_2 20 rfl rfl)
theorem dX5_isSum_70 : decode cX5_isSum 70 = .ok (.aload_n 0, 1) := dk_42 (dk_at dksX5_isSum_2 23 rfl rfl)
theorem dX5_isSum_71 : decode cX5_isSum 71 = .ok (.aload_n 1, 1) := dk_43 (dk_at dksX5_isSum_3 0 rfl rfl)
theorem dX5_isSum_72 : decode cX5_isSum 72 = .ok (.invokevirtual 304, 3) := dk_182 1 48 (dk_at dksX5_isSum_3 1 rfl rfl)
theorem dX5_isSum_75 : decode cX5_isSum 75 = .ok (.ifCond .ne 5, 3) := dk_154 0 5 (dk_at dksX5_isSum_3 4 rfl rfl)
theorem dX5_isSum_78 : decode cX5_isSum 78 = .ok (.iconst 0, 1) := dk_3 (dk_at dksX5_isSum_3 7 rfl rfl)
theorem dX5_isSum_79 : decode cX5_isSum 79 = .ok (.ireturn, 1) := dk_172 (dk_at dksX5_isSum_3 8 rfl rfl)
theorem dX5_isSum_80 : decode cX5_isSum 80 = .ok (.aload_n 0, 1) := dk_42 (dk_at dksX5_isSum_3 9 rfl rfl)
theorem dX5_isSum_81 : decode cX5_isSum 81 = .ok (.aload_n 1, 1) := dk_43 (dk_at dksX5_isSum_3 10 rfl rfl)
theorem dX5_isSum_82 : decode cX5_isSum 82 = .ok (.iload_n 2, 1) := dk_28 (dk_at dksX5_isSum_3 11 rfl rfl)
theorem dX5_isSum_83 : decode cX5_isSum 83 = .ok (.iconst 0, 1) := dk_3 (dk_at dksX5_isSum_3 12 rfl rfl)
theorem dX5_isSum_84 : decode cX5_isSum 84 = .ok (.invokevirtual 268, 3) := dk_182 1 12 (dk_at dksX5_isSum_3 13 rfl rfl)
theorem dX5_isSum_87 : decode cX5_isSum 87 = .ok (.goto (-77), 3) := dk_167 255 179 (dk_at dksX5_isSum_3 16 rfl rfl)
theorem dX5_isSum_90 : decode cX5_isSum 90 = .ok (.iconst 1, 1) := dk_4 (dk_at dksX5_isSum_3 19 rfl rfl)
theorem dX5_isSum_91 : decode cX5_isSum 91 = .ok (.ireturn, 1) := dk_172 (dk_at dksX5_isSum_3 20 rfl rfl)
abbrev cX5_isProduct : ByteArray := prog_46_method_61_code
def yX5_isProduct : MethodName := ⟨RX5, "isProduct", "(LSofaDigModel$Plan;)Z"⟩
def dkwX5_isProduct_3 : List UInt8 := [43, 182, 1, 51, 154, 0, 5, 3, 172, 42, 43, 28, 3, 182, 1, 12, 167, 255, 179, 4, 172]
abbrev dktX5_isProduct_3 : List UInt8 := dkwX5_isProduct_3 ++ []
def dkwX5_isProduct_2 : List UInt8 := [16, 42, 160, 0, 8, 16, 103, 167, 0, 5, 16, 104, 61, 42, 89, 180, 1, 0, 4, 96, 181, 1, 0, 42]
abbrev dktX5_isProduct_2 : List UInt8 := dkwX5_isProduct_2 ++ dktX5_isProduct_3
def dkwX5_isProduct_1 : List UInt8 := [42, 180, 0, 24, 42, 180, 1, 0, 46, 16, 47, 160, 0, 55, 42, 180, 0, 24, 42, 180, 1, 0, 46]
abbrev dktX5_isProduct_1 : List UInt8 := dkwX5_isProduct_1 ++ dktX5_isProduct_2
def dkwX5_isProduct_0 : List UInt8 := [42, 43, 182, 1, 51, 154, 0, 5, 3, 172, 42, 180, 0, 24, 42, 180, 1, 0, 46, 16, 42, 159, 0, 17]
abbrev dktX5_isProduct_0 : List UInt8 := dkwX5_isProduct_0 ++ dktX5_isProduct_1
theorem dksX5_isProduct_0 : cX5_isProduct.data.toList.drop 0 = dktX5_isProduct_0 := by decide +kernel
theorem dksX5_isProduct_1 : cX5_isProduct.data.toList.drop 24 = dktX5_isProduct_1 := dk_seg dksX5_isProduct_0 24 rfl rfl
theorem dksX5_isProduct_2 : cX5_isProduct.data.toList.drop 47 = dktX5_isProduct_2 := dk_seg dksX5_isProduct_1 23 rfl rfl
theorem dksX5_isProduct_3 : cX5_isProduct.data.toList.drop 71 = dktX5_isProduct_3 := dk_seg dksX5_isProduct_2 24 rfl rfl
theorem dX5_isProduct_0 : decode cX5_isProduct 0 = .ok (.aload_n 0, 1) := dk_42 (dk_at dksX5_isProduct_0 0 rfl rfl)
theorem dX5_isProduct_1 : decode cX5_isProduct 1 = .ok (.aload_n 1, 1) := dk_43 (dk_at dksX5_isProduct_0 1 rfl rfl)
theorem dX5_isProduct_2 : decode cX5_isProduct 2 = .ok (.invokevirtual 307, 3) := dk_182 1 51 (dk_at dksX5_isProduct_0 2 rfl rfl)
theorem dX5_isProduct_5 : decode cX5_isProduct 5 = .ok (.ifCond .ne 5, 3) := dk_154 0 5 (dk_at dksX5_isProduct_0 5 rfl rfl)
theorem dX5_isProduct_8 : decode cX5_isProduct 8 = .ok (.iconst 0, 1) := dk_3 (dk_at dksX5_isProduct_0 8 rfl rfl)
theorem dX5_isProduct_9 : decode cX5_isProduct 9 = .ok (.ireturn, 1) := dk_172 (dk_at dksX5_isProduct_0 9 rfl rfl)
theorem dX5_isProduct_10 : decode cX5_isProduct 10 = .ok (.aload_n 0, 1) := dk_42 (dk_at dksX5_isProduct_0 10 rfl rfl)
theorem dX5_isProduct_11 : decode cX5_isProduct 11 = .ok (.getfield 24, 3) := dk_180 0 24 (dk_at dksX5_isProduct_0 11 rfl rfl)
theorem dX5_isProduct_14 : decode cX5_isProduct 14 = .ok (.aload_n 0, 1) := dk_42 (dk_at dksX5_isProduct_0 14 rfl rfl)
theorem dX5_isProduct_15 : decode cX5_isProduct 15 = .ok (.getfield 256, 3) := dk_180 1 0 (dk_at dksX5_isProduct_0 15 rfl rfl)
theorem dX5_isProduct_18 : decode cX5_isProduct 18 = .ok (.iaload, 1) := dk_46 (dk_at dksX5_isProduct_0 18 rfl rfl)
theorem dX5_isProduct_19 : decode cX5_isProduct 19 = .ok (.bipush 42, 2) := dk_16 42 (dk_at dksX5_isProduct_0 19 rfl rfl)
theorem dX5_isProduct_21 : decode cX5_isProduct 21 = .ok (.if_icmp .eq 17, 3) := dk_159 0 17 (dk_at dksX5_isProduct_0 21 rfl rfl)
theorem dX5_isProduct_24 : decode cX5_isProduct 24 = .ok (.aload_n 0, 1) := dk_42 (dk_at dksX5_isProduct_1 0 rfl rfl)
theorem dX5_isProduct_25 : decode cX5_isProduct 25 = .ok (.getfield 24, 3) := dk_180 0 24 (dk_at dksX5_isProduct_1 1 rfl rfl)
theorem dX5_isProduct_28 : decode cX5_isProduct 28 = .ok (.aload_n 0, 1) := dk_42 (dk_at dksX5_isProduct_1 4 rfl rfl)
theorem dX5_isProduct_29 : decode cX5_isProduct 29 = .ok (.getfield 256, 3) := dk_180 1 0 (dk_at dksX5_isProduct_1 5 rfl rfl)
theorem dX5_isProduct_32 : decode cX5_isProduct 32 = .ok (.iaload, 1) := dk_46 (dk_at dksX5_isProduct_1 8 rfl rfl)
theorem dX5_isProduct_33 : decode cX5_isProduct 33 = .ok (.bipush 47, 2) := dk_16 47 (dk_at dksX5_isProduct_1 9 rfl rfl)
theorem dX5_isProduct_35 : decode cX5_isProduct 35 = .ok (.if_icmp .ne 55, 3) := dk_160 0 55 (dk_at dksX5_isProduct_1 11 rfl rfl)
theorem dX5_isProduct_38 : decode cX5_isProduct 38 = .ok (.aload_n 0, 1) := dk_42 (dk_at dksX5_isProduct_1 14 rfl rfl)
theorem dX5_isProduct_39 : decode cX5_isProduct 39 = .ok (.getfield 24, 3) := dk_180 0 24 (dk_at dksX5_isProduct_1 15 rfl rfl)
theorem dX5_isProduct_42 : decode cX5_isProduct 42 = .ok (.aload_n 0, 1) := dk_42 (dk_at dksX5_isProduct_1 18 rfl rfl)
theorem dX5_isProduct_43 : decode cX5_isProduct 43 = .ok (.getfield 256, 3) := dk_180 1 0 (dk_at dksX5_isProduct_1 19 rfl rfl)
theorem dX5_isProduct_46 : decode cX5_isProduct 46 = .ok (.iaload, 1) := dk_46 (dk_at dksX5_isProduct_1 22 rfl rfl)
theorem dX5_isProduct_47 : decode cX5_isProduct 47 = .ok (.bipush 42, 2) := dk_16 42 (dk_at dksX5_isProduct_2 0 rfl rfl)
theorem dX5_isProduct_49 : decode cX5_isProduct 49 = .ok (.if_icmp .ne 8, 3) := dk_160 0 8 (dk_at dksX5_isProduct_2 2 rfl rfl)
theorem dX5_isProduct_52 : decode cX5_isProduct 52 = .ok (.bipush 103, 2) := dk_16 103 (dk_at dksX5_isProduct_2 5 rfl rfl)
theorem dX5_isProduct_54 : decode cX5_isProduct 54 = .ok (.goto 5, 3) := dk_167 0 5 (dk_at dksX5_isProduct_2 7 rfl rfl)
theorem dX5_isProduct_57 : decode cX5_isProduct 57 = .ok (.bipush 104, 2) := dk_16 104 (dk_at dksX5_isProduct_2 10 rfl rfl)
theorem dX5_isProduct_59 : decode cX5_isProduct 59 = .ok (.istore_n 2, 1) := dk_61 (dk_at dksX5_isProduct_2 12 rfl rfl)
theorem dX5_isProduct_60 : decode cX5_isProduct 60 = .ok (.aload_n 0, 1) := dk_42 (dk_at dksX5_isProduct_2 13 rfl rfl)
theorem dX5_isProduct_61 : decode cX5_isProduct 61 = .ok (.dup, 1) := dk_89 (dk_at dksX5_isProduct_2 14 rfl rfl)
theorem dX5_isProduct_62 : decode cX5_isProduct 62 = .ok (.getfield 256, 3) := dk_180 1 0 (dk_at dksX5_isProduct_2 15 rfl rfl)
theorem dX5_isProduct_65 : decode cX5_isProduct 65 = .ok (.iconst 1, 1) := dk_4 (dk_at dksX5_isProduct_2 18 rfl rfl)
theorem dX5_isProduct_66 : decode cX5_isProduct 66 = .ok (.iadd, 1) := dk_96 (dk_at dksX5_isProduct_2 19 rfl rfl)
theorem dX5_isProduct_67 : decode cX5_isProduct 67 = .ok (.putfield 256, 3) := dk_181 1 0 (dk_at dksX5_isProduct_2 20 rfl rfl)
theorem dX5_isProduct_70 : decode cX5_isProduct 70 = .ok (.aload_n 0, 1) := dk_42 (dk_at dksX5_isProduct_2 23 rfl rfl)
theorem dX5_isProduct_71 : decode cX5_isProduct 71 = .ok (.aload_n 1, 1) := dk_43 (dk_at dksX5_isProduct_3 0 rfl rfl)
theorem dX5_isProduct_72 : decode cX5_isProduct 72 = .ok (.invokevirtual 307, 3) := dk_182 1 51 (dk_at dksX5_isProduct_3 1 rfl rfl)
theorem dX5_isProduct_75 : decode cX5_isProduct 75 = .ok (.ifCond .ne 5, 3) := dk_154 0 5 (dk_at dksX5_isProduct_3 4 rfl rfl)
theorem dX5_isProduct_78 : decode cX5_isProduct 78 = .ok (.iconst 0, 1) := dk_3 (dk_at dksX5_isProduct_3 7 rfl rfl)
theorem dX5_isProduct_79 : decode cX5_isProduct 79 = .ok (.ireturn, 1) := dk_172 (dk_at dksX5_isProduct_3 8 rfl rfl)
theorem dX5_isProduct_80 : decode cX5_isProduct 80 = .ok (.aload_n 0, 1) := dk_42 (dk_at dksX5_isProduct_3 9 rfl rfl)
theorem dX5_isProduct_81 : decode cX5_isProduct 81 = .ok (.aload_n 1, 1) := dk_43 (dk_at dksX5_isProduct_3 10 rfl rfl)
theorem dX5_isProduct_82 : decode cX5_isProduct 82 = .ok (.iload_n 2, 1) := dk_28 (dk_at dksX5_isProduct_3 11 rfl rfl)
theorem dX5_isProduct_83 : decode cX5_isProduct 83 = .ok (.iconst 0, 1) := dk_3 (dk_at dksX5_isProduct_3 12 rfl rfl)
theorem dX5_isProduct_84 : decode cX5_isProduct 84 = .ok (.invokevirtual 268, 3) := dk_182 1 12 (dk_at dksX5_isProduct_3 13 rfl rfl)
theorem dX5_isProduct_87 : decode cX5_isProduct 87 = .ok (.goto (-77), 3) := dk_167 255 179 (dk_at dksX5_isProduct_3 16 rfl rfl)
theorem dX5_isProduct_90 : decode cX5_isProduct 90 = .ok (.iconst 1, 1) := dk_4 (dk_at dksX5_isProduct_3 19 rfl rfl)
theorem dX5_isProduct_91 : decode cX5_isProduct 91 = .ok (.ireturn, 1) := dk_172 (dk_at dksX5_isProduct_3 20 rfl rfl)
abbrev cX5_isValue : ByteArray := prog_46_method_62_code
def yX5_isValue : MethodName := ⟨RX5, "isValue", "(LSofaDigModel$Plan;)Z"⟩
def dkwX5_isValue_8 : List UInt8 := [167, 0, 5, 3, 172, 42, 89, 180, 1, 0, 4, 96, 181, 1, 0, 4, 172]
abbrev dktX5_isValue_8 : List UInt8 := dkwX5_isValue_8 ++ []
def dkwX5_isValue_7 : List UInt8 := [182, 1, 12, 167, 0, 26, 28, 16, 15, 16, 18, 184, 0, 61, 153, 0, 13, 42, 43, 28, 3, 182, 1, 12]
abbrev dktX5_isValue_7 : List UInt8 := dkwX5_isValue_7 ++ dktX5_isValue_8
def dkwX5_isValue_6 : List UInt8 := [182, 1, 42, 172, 28, 16, 31, 160, 0, 23, 42, 43, 16, 100, 42, 180, 0, 33, 42, 180, 1, 0, 47, 136]
abbrev dktX5_isValue_6 : List UInt8 := dkwX5_isValue_6 ++ dktX5_isValue_7
def dkwX5_isValue_5 : List UInt8 := [28, 16, 20, 160, 0, 10, 42, 43, 28, 182, 1, 38, 172, 28, 16, 21, 160, 0, 10, 42, 43, 28]
abbrev dktX5_isValue_5 : List UInt8 := dkwX5_isValue_5 ++ dktX5_isValue_6
def dkwX5_isValue_4 : List UInt8 := [16, 27, 159, 0, 9, 28, 16, 28, 160, 0, 10, 42, 43, 28, 182, 1, 54, 172, 28, 16, 19, 159, 0, 9]
abbrev dktX5_isValue_4 : List UInt8 := dkwX5_isValue_4 ++ dktX5_isValue_5
def dkwX5_isValue_3 : List UInt8 := [42, 43, 182, 1, 22, 153, 0, 16, 42, 16, 41, 182, 1, 26, 153, 0, 7, 4, 167, 0, 4, 3, 172, 28]
abbrev dktX5_isValue_3 : List UInt8 := dkwX5_isValue_3 ++ dktX5_isValue_4
def dkwX5_isValue_2 : List UInt8 := [43, 16, 105, 3, 182, 1, 12, 4, 172, 28, 16, 40, 160, 0, 35, 42, 16, 40, 182, 1, 19, 153, 0, 24]
abbrev dktX5_isValue_2 : List UInt8 := dkwX5_isValue_2 ++ dktX5_isValue_3
def dkwX5_isValue_1 : List UInt8 := [153, 0, 11, 42, 43, 182, 1, 51, 154, 0, 5, 3, 172, 42, 89, 180, 1, 6, 4, 100, 181, 1, 6, 42]
abbrev dktX5_isValue_1 : List UInt8 := dkwX5_isValue_1 ++ dktX5_isValue_2
def dkwX5_isValue_0 : List UInt8 := [42, 180, 0, 24, 42, 180, 1, 0, 46, 61, 28, 16, 45, 160, 0, 42, 42, 16, 45, 182, 1, 19]
abbrev dktX5_isValue_0 : List UInt8 := dkwX5_isValue_0 ++ dktX5_isValue_1
theorem dksX5_isValue_0 : cX5_isValue.data.toList.drop 0 = dktX5_isValue_0 := by decide +kernel
theorem dksX5_isValue_1 : cX5_isValue.data.toList.drop 22 = dktX5_isValue_1 := dk_seg dksX5_isValue_0 22 rfl rfl
theorem dksX5_isValue_2 : cX5_isValue.data.toList.drop 46 = dktX5_isValue_2 := dk_seg dksX5_isValue_1 24 rfl rfl
theorem dksX5_isValue_3 : cX5_isValue.data.toList.drop 70 = dktX5_isValue_3 := dk_seg dksX5_isValue_2 24 rfl rfl
theorem dksX5_isValue_4 : cX5_isValue.data.toList.drop 94 = dktX5_isValue_4 := dk_seg dksX5_isValue_3 24 rfl rfl
theorem dksX5_isValue_5 : cX5_isValue.data.toList.drop 118 = dktX5_isValue_5 := dk_seg dksX5_isValue_4 24 rfl rfl
theorem dksX5_isValue_6 : cX5_isValue.data.toList.drop 140 = dktX5_isValue_6 := dk_seg dksX5_isValue_5 22 rfl rfl
theorem dksX5_isValue_7 : cX5_isValue.data.toList.drop 164 = dktX5_isValue_7 := dk_seg dksX5_isValue_6 24 rfl rfl
theorem dksX5_isValue_8 : cX5_isValue.data.toList.drop 188 = dktX5_isValue_8 := dk_seg dksX5_isValue_7 24 rfl rfl
theorem dX5_isValue_0 : decode cX5_isValue 0 = .ok (.aload_n 0, 1) := dk_42 (dk_at dksX5_isValue_0 0 rfl rfl)
theorem dX5_isValue_1 : decode cX5_isValue 1 = .ok (.getfield 24, 3) := dk_180 0 24 (dk_at dksX5_isValue_0 1 rfl rfl)
theorem dX5_isValue_4 : decode cX5_isValue 4 = .ok (.aload_n 0, 1) := dk_42 (dk_at dksX5_isValue_0 4 rfl rfl)
theorem dX5_isValue_5 : decode cX5_isValue 5 = .ok (.getfield 256, 3) := dk_180 1 0 (dk_at dksX5_isValue_0 5 rfl rfl)
theorem dX5_isValue_8 : decode cX5_isValue 8 = .ok (.iaload, 1) := dk_46 (dk_at dksX5_isValue_0 8 rfl rfl)
theorem dX5_isValue_9 : decode cX5_isValue 9 = .ok (.istore_n 2, 1) := dk_61 (dk_at dksX5_isValue_0 9 rfl rfl)
theorem dX5_isValue_10 : decode cX5_isValue 10 = .ok (.iload_n 2, 1) := dk_28 (dk_at dksX5_isValue_0 10 rfl rfl)
theorem dX5_isValue_11 : decode cX5_isValue 11 = .ok (.bipush 45, 2) := dk_16 45 (dk_at dksX5_isValue_0 11 rfl rfl)
theorem dX5_isValue_13 : decode cX5_isValue 13 = .ok (.if_icmp .ne 42, 3) := dk_160 0 42 (dk_at dksX5_isValue_0 13 rfl rfl)
theorem dX5_isValue_16 : decode cX5_isValue 16 = .ok (.aload_n 0, 1) := dk_42 (dk_at dksX5_isValue_0 16 rfl rfl)
theorem dX5_isValue_17 : decode cX5_isValue 17 = .ok (.bipush 45, 2) := dk_16 45 (dk_at dksX5_isValue_0 17 rfl rfl)
theorem dX5_isValue_19 : decode cX5_isValue 19 = .ok (.invokevirtual 275, 3) := dk_182 1 19 (dk_at dksX5_isValue_0 19 rfl rfl)
theorem dX5_isValue_22 : decode cX5_isValue 22 = .ok (.ifCond .eq 11, 3) := dk_153 0 11 (dk_at dksX5_isValue_1 0 rfl rfl)
theorem dX5_isValue_25 : decode cX5_isValue 25 = .ok (.aload_n 0, 1) := dk_42 (dk_at dksX5_isValue_1 3 rfl rfl)
theorem dX5_isValue_26 : decode cX5_isValue 26 = .ok (.aload_n 1, 1) := dk_43 (dk_at dksX5_isValue_1 4 rfl rfl)
theorem dX5_isValue_27 : decode cX5_isValue 27 = .ok (.invokevirtual 307, 3) := dk_182 1 51 (dk_at dksX5_isValue_1 5 rfl rfl)
theorem dX5_isValue_30 : decode cX5_isValue 30 = .ok (.ifCond .ne 5, 3) := dk_154 0 5 (dk_at dksX5_isValue_1 8 rfl rfl)
theorem dX5_isValue_33 : decode cX5_isValue 33 = .ok (.iconst 0, 1) := dk_3 (dk_at dksX5_isValue_1 11 rfl rfl)
theorem dX5_isValue_34 : decode cX5_isValue 34 = .ok (.ireturn, 1) := dk_172 (dk_at dksX5_isValue_1 12 rfl rfl)
theorem dX5_isValue_35 : decode cX5_isValue 35 = .ok (.aload_n 0, 1) := dk_42 (dk_at dksX5_isValue_1 13 rfl rfl)
theorem dX5_isValue_36 : decode cX5_isValue 36 = .ok (.dup, 1) := dk_89 (dk_at dksX5_isValue_1 14 rfl rfl)
theorem dX5_isValue_37 : decode cX5_isValue 37 = .ok (.getfield 262, 3) := dk_180 1 6 (dk_at dksX5_isValue_1 15 rfl rfl)
theorem dX5_isValue_40 : decode cX5_isValue 40 = .ok (.iconst 1, 1) := dk_4 (dk_at dksX5_isValue_1 18 rfl rfl)
theorem dX5_isValue_41 : decode cX5_isValue 41 = .ok (.isub, 1) := dk_100 (dk_at dksX5_isValue_1 19 rfl rfl)
theorem dX5_isValue_42 : decode cX5_isValue 42 = .ok (.putfield 262, 3) := dk_181 1 6 (dk_at dksX5_isValue_1 20 rfl rfl)
theorem dX5_isValue_45 : decode cX5_isValue 45 = .ok (.aload_n 0, 1) := dk_42 (dk_at dksX5_isValue_1 23 rfl rfl)
theorem dX5_isValue_46 : decode cX5_isValue 46 = .ok (.aload_n 1, 1) := dk_43 (dk_at dksX5_isValue_2 0 rfl rfl)
theorem dX5_isValue_47 : decode cX5_isValue 47 = .ok (.bipush 105, 2) := dk_16 105 (dk_at dksX5_isValue_2 1 rfl rfl)
theorem dX5_isValue_49 : decode cX5_isValue 49 = .ok (.iconst 0, 1) := dk_3 (dk_at dksX5_isValue_2 3 rfl rfl)
theorem dX5_isValue_50 : decode cX5_isValue 50 = .ok (.invokevirtual 268, 3) := dk_182 1 12 (dk_at dksX5_isValue_2 4 rfl rfl)
theorem dX5_isValue_53 : decode cX5_isValue 53 = .ok (.iconst 1, 1) := dk_4 (dk_at dksX5_isValue_2 7 rfl rfl)
theorem dX5_isValue_54 : decode cX5_isValue 54 = .ok (.ireturn, 1) := dk_172 (dk_at dksX5_isValue_2 8 rfl rfl)
theorem dX5_isValue_55 : decode cX5_isValue 55 = .ok (.iload_n 2, 1) := dk_28 (dk_at dksX5_isValue_2 9 rfl rfl)
theorem dX5_isValue_56 : decode cX5_isValue 56 = .ok (.bipush 40, 2) := dk_16 40 (dk_at dksX5_isValue_2 10 rfl rfl)
theorem dX5_isValue_58 : decode cX5_isValue 58 = .ok (.if_icmp .ne 35, 3) := dk_160 0 35 (dk_at dksX5_isValue_2 12 rfl rfl)
theorem dX5_isValue_61 : decode cX5_isValue 61 = .ok (.aload_n 0, 1) := dk_42 (dk_at dksX5_isValue_2 15 rfl rfl)
theorem dX5_isValue_62 : decode cX5_isValue 62 = .ok (.bipush 40, 2) := dk_16 40 (dk_at dksX5_isValue_2 16 rfl rfl)
theorem dX5_isValue_64 : decode cX5_isValue 64 = .ok (.invokevirtual 275, 3) := dk_182 1 19 (dk_at dksX5_isValue_2 18 rfl rfl)
theorem dX5_isValue_67 : decode cX5_isValue 67 = .ok (.ifCond .eq 24, 3) := dk_153 0 24 (dk_at dksX5_isValue_2 21 rfl rfl)
theorem dX5_isValue_70 : decode cX5_isValue 70 = .ok (.aload_n 0, 1) := dk_42 (dk_at dksX5_isValue_3 0 rfl rfl)
theorem dX5_isValue_71 : decode cX5_isValue 71 = .ok (.aload_n 1, 1) := dk_43 (dk_at dksX5_isValue_3 1 rfl rfl)
theorem dX5_isValue_72 : decode cX5_isValue 72 = .ok (.invokevirtual 278, 3) := dk_182 1 22 (dk_at dksX5_isValue_3 2 rfl rfl)
theorem dX5_isValue_75 : decode cX5_isValue 75 = .ok (.ifCond .eq 16, 3) := dk_153 0 16 (dk_at dksX5_isValue_3 5 rfl rfl)
theorem dX5_isValue_78 : decode cX5_isValue 78 = .ok (.aload_n 0, 1) := dk_42 (dk_at dksX5_isValue_3 8 rfl rfl)
theorem dX5_isValue_79 : decode cX5_isValue 79 = .ok (.bipush 41, 2) := dk_16 41 (dk_at dksX5_isValue_3 9 rfl rfl)
theorem dX5_isValue_81 : decode cX5_isValue 81 = .ok (.invokevirtual 282, 3) := dk_182 1 26 (dk_at dksX5_isValue_3 11 rfl rfl)
theorem dX5_isValue_84 : decode cX5_isValue 84 = .ok (.ifCond .eq 7, 3) := dk_153 0 7 (dk_at dksX5_isValue_3 14 rfl rfl)
theorem dX5_isValue_87 : decode cX5_isValue 87 = .ok (.iconst 1, 1) := dk_4 (dk_at dksX5_isValue_3 17 rfl rfl)
theorem dX5_isValue_88 : decode cX5_isValue 88 = .ok (.goto 4, 3) := dk_167 0 4 (dk_at dksX5_isValue_3 18 rfl rfl)
theorem dX5_isValue_91 : decode cX5_isValue 91 = .ok (.iconst 0, 1) := dk_3 (dk_at dksX5_isValue_3 21 rfl rfl)
theorem dX5_isValue_92 : decode cX5_isValue 92 = .ok (.ireturn, 1) := dk_172 (dk_at dksX5_isValue_3 22 rfl rfl)
theorem dX5_isValue_93 : decode cX5_isValue 93 = .ok (.iload_n 2, 1) := dk_28 (dk_at dksX5_isValue_3 23 rfl rfl)
theorem dX5_isValue_94 : decode cX5_isValue 94 = .ok (.bipush 27, 2) := dk_16 27 (dk_at dksX5_isValue_4 0 rfl rfl)
theorem dX5_isValue_96 : decode cX5_isValue 96 = .ok (.if_icmp .eq 9, 3) := dk_159 0 9 (dk_at dksX5_isValue_4 2 rfl rfl)
theorem dX5_isValue_99 : decode cX5_isValue 99 = .ok (.iload_n 2, 1) := dk_28 (dk_at dksX5_isValue_4 5 rfl rfl)
theorem dX5_isValue_100 : decode cX5_isValue 100 = .ok (.bipush 28, 2) := dk_16 28 (dk_at dksX5_isValue_4 6 rfl rfl)
theorem dX5_isValue_102 : decode cX5_isValue 102 = .ok (.if_icmp .ne 10, 3) := dk_160 0 10 (dk_at dksX5_isValue_4 8 rfl rfl)
theorem dX5_isValue_105 : decode cX5_isValue 105 = .ok (.aload_n 0, 1) := dk_42 (dk_at dksX5_isValue_4 11 rfl rfl)
theorem dX5_isValue_106 : decode cX5_isValue 106 = .ok (.aload_n 1, 1) := dk_43 (dk_at dksX5_isValue_4 12 rfl rfl)
theorem dX5_isValue_107 : decode cX5_isValue 107 = .ok (.iload_n 2, 1) := dk_28 (dk_at dksX5_isValue_4 13 rfl rfl)
theorem dX5_isValue_108 : decode cX5_isValue 108 = .ok (.invokevirtual 310, 3) := dk_182 1 54 (dk_at dksX5_isValue_4 14 rfl rfl)
theorem dX5_isValue_111 : decode cX5_isValue 111 = .ok (.ireturn, 1) := dk_172 (dk_at dksX5_isValue_4 17 rfl rfl)
theorem dX5_isValue_112 : decode cX5_isValue 112 = .ok (.iload_n 2, 1) := dk_28 (dk_at dksX5_isValue_4 18 rfl rfl)
theorem dX5_isValue_113 : decode cX5_isValue 113 = .ok (.bipush 19, 2) := dk_16 19 (dk_at dksX5_isValue_4 19 rfl rfl)
theorem dX5_isValue_115 : decode cX5_isValue 115 = .ok (.if_icmp .eq 9, 3) := dk_159 0 9 (dk_at dksX5_isValue_4 21 rfl rfl)
theorem dX5_isValue_118 : decode cX5_isValue 118 = .ok (.iload_n 2, 1) := dk_28 (dk_at dksX5_isValue_5 0 rfl rfl)
theorem dX5_isValue_119 : decode cX5_isValue 119 = .ok (.bipush 20, 2) := dk_16 20 (dk_at dksX5_isValue_5 1 rfl rfl)
theorem dX5_isValue_121 : decode cX5_isValue 121 = .ok (.if_icmp .ne 10, 3) := dk_160 0 10 (dk_at dksX5_isValue_5 3 rfl rfl)
theorem dX5_isValue_124 : decode cX5_isValue 124 = .ok (.aload_n 0, 1) := dk_42 (dk_at dksX5_isValue_5 6 rfl rfl)
theorem dX5_isValue_125 : decode cX5_isValue 125 = .ok (.aload_n 1, 1) := dk_43 (dk_at dksX5_isValue_5 7 rfl rfl)
theorem dX5_isValue_126 : decode cX5_isValue 126 = .ok (.iload_n 2, 1) := dk_28 (dk_at dksX5_isValue_5 8 rfl rfl)
theorem dX5_isValue_127 : decode cX5_isValue 127 = .ok (.invokevirtual 294, 3) := dk_182 1 38 (dk_at dksX5_isValue_5 9 rfl rfl)
theorem dX5_isValue_130 : decode cX5_isValue 130 = .ok (.ireturn, 1) := dk_172 (dk_at dksX5_isValue_5 12 rfl rfl)
theorem dX5_isValue_131 : decode cX5_isValue 131 = .ok (.iload_n 2, 1) := dk_28 (dk_at dksX5_isValue_5 13 rfl rfl)
theorem dX5_isValue_132 : decode cX5_isValue 132 = .ok (.bipush 21, 2) := dk_16 21 (dk_at dksX5_isValue_5 14 rfl rfl)
theorem dX5_isValue_134 : decode cX5_isValue 134 = .ok (.if_icmp .ne 10, 3) := dk_160 0 10 (dk_at dksX5_isValue_5 16 rfl rfl)
theorem dX5_isValue_137 : decode cX5_isValue 137 = .ok (.aload_n 0, 1) := dk_42 (dk_at dksX5_isValue_5 19 rfl rfl)
theorem dX5_isValue_138 : decode cX5_isValue 138 = .ok (.aload_n 1, 1) := dk_43 (dk_at dksX5_isValue_5 20 rfl rfl)
theorem dX5_isValue_139 : decode cX5_isValue 139 = .ok (.iload_n 2, 1) := dk_28 (dk_at dksX5_isValue_5 21 rfl rfl)
theorem dX5_isValue_140 : decode cX5_isValue 140 = .ok (.invokevirtual 298, 3) := dk_182 1 42 (dk_at dksX5_isValue_6 0 rfl rfl)
theorem dX5_isValue_143 : decode cX5_isValue 143 = .ok (.ireturn, 1) := dk_172 (dk_at dksX5_isValue_6 3 rfl rfl)
theorem dX5_isValue_144 : decode cX5_isValue 144 = .ok (.iload_n 2, 1) := dk_28 (dk_at dksX5_isValue_6 4 rfl rfl)
theorem dX5_isValue_145 : decode cX5_isValue 145 = .ok (.bipush 31, 2) := dk_16 31 (dk_at dksX5_isValue_6 5 rfl rfl)
theorem dX5_isValue_147 : decode cX5_isValue 147 = .ok (.if_icmp .ne 23, 3) := dk_160 0 23 (dk_at dksX5_isValue_6 7 rfl rfl)
theorem dX5_isValue_150 : decode cX5_isValue 150 = .ok (.aload_n 0, 1) := dk_42 (dk_at dksX5_isValue_6 10 rfl rfl)
theorem dX5_isValue_151 : decode cX5_isValue 151 = .ok (.aload_n 1, 1) := dk_43 (dk_at dksX5_isValue_6 11 rfl rfl)
theorem dX5_isValue_152 : decode cX5_isValue 152 = .ok (.bipush 100, 2) := dk_16 100 (dk_at dksX5_isValue_6 12 rfl rfl)
theorem dX5_isValue_154 : decode cX5_isValue 154 = .ok (.aload_n 0, 1) := dk_42 (dk_at dksX5_isValue_6 14 rfl rfl)
theorem dX5_isValue_155 : decode cX5_isValue 155 = .ok (.getfield 33, 3) := dk_180 0 33 (dk_at dksX5_isValue_6 15 rfl rfl)
theorem dX5_isValue_158 : decode cX5_isValue 158 = .ok (.aload_n 0, 1) := dk_42 (dk_at dksX5_isValue_6 18 rfl rfl)
theorem dX5_isValue_159 : decode cX5_isValue 159 = .ok (.getfield 256, 3) := dk_180 1 0 (dk_at dksX5_isValue_6 19 rfl rfl)
theorem dX5_isValue_162 : decode cX5_isValue 162 = .ok (.laload, 1) := dk_47 (dk_at dksX5_isValue_6 22 rfl rfl)
theorem dX5_isValue_163 : decode cX5_isValue 163 = .ok (.l2i, 1) := dk_136 (dk_at dksX5_isValue_6 23 rfl rfl)
theorem dX5_isValue_164 : decode cX5_isValue 164 = .ok (.invokevirtual 268, 3) := dk_182 1 12 (dk_at dksX5_isValue_7 0 rfl rfl)
theorem dX5_isValue_167 : decode cX5_isValue 167 = .ok (.goto 26, 3) := dk_167 0 26 (dk_at dksX5_isValue_7 3 rfl rfl)
theorem dX5_isValue_170 : decode cX5_isValue 170 = .ok (.iload_n 2, 1) := dk_28 (dk_at dksX5_isValue_7 6 rfl rfl)
theorem dX5_isValue_171 : decode cX5_isValue 171 = .ok (.bipush 15, 2) := dk_16 15 (dk_at dksX5_isValue_7 7 rfl rfl)
theorem dX5_isValue_173 : decode cX5_isValue 173 = .ok (.bipush 18, 2) := dk_16 18 (dk_at dksX5_isValue_7 9 rfl rfl)
theorem dX5_isValue_175 : decode cX5_isValue 175 = .ok (.invokestatic 61, 3) := dk_184 0 61 (dk_at dksX5_isValue_7 11 rfl rfl)
theorem dX5_isValue_178 : decode cX5_isValue 178 = .ok (.ifCond .eq 13, 3) := dk_153 0 13 (dk_at dksX5_isValue_7 14 rfl rfl)
theorem dX5_isValue_181 : decode cX5_isValue 181 = .ok (.aload_n 0, 1) := dk_42 (dk_at dksX5_isValue_7 17 rfl rfl)
theorem dX5_isValue_182 : decode cX5_isValue 182 = .ok (.aload_n 1, 1) := dk_43 (dk_at dksX5_isValue_7 18 rfl rfl)
theorem dX5_isValue_183 : decode cX5_isValue 183 = .ok (.iload_n 2, 1) := dk_28 (dk_at dksX5_isValue_7 19 rfl rfl)
theorem dX5_isValue_184 : decode cX5_isValue 184 = .ok (.iconst 0, 1) := dk_3 (dk_at dksX5_isValue_7 20 rfl rfl)
theorem dX5_isValue_185 : decode cX5_isValue 185 = .ok (.invokevirtual 268, 3) := dk_182 1 12 (dk_at dksX5_isValue_7 21 rfl rfl)
theorem dX5_isValue_188 : decode cX5_isValue 188 = .ok (.goto 5, 3) := dk_167 0 5 (dk_at dksX5_isValue_8 0 rfl rfl)
theorem dX5_isValue_191 : decode cX5_isValue 191 = .ok (.iconst 0, 1) := dk_3 (dk_at dksX5_isValue_8 3 rfl rfl)
theorem dX5_isValue_192 : decode cX5_isValue 192 = .ok (.ireturn, 1) := dk_172 (dk_at dksX5_isValue_8 4 rfl rfl)
theorem dX5_isValue_193 : decode cX5_isValue 193 = .ok (.aload_n 0, 1) := dk_42 (dk_at dksX5_isValue_8 5 rfl rfl)
theorem dX5_isValue_194 : decode cX5_isValue 194 = .ok (.dup, 1) := dk_89 (dk_at dksX5_isValue_8 6 rfl rfl)
theorem dX5_isValue_195 : decode cX5_isValue 195 = .ok (.getfield 256, 3) := dk_180 1 0 (dk_at dksX5_isValue_8 7 rfl rfl)
theorem dX5_isValue_198 : decode cX5_isValue 198 = .ok (.iconst 1, 1) := dk_4 (dk_at dksX5_isValue_8 10 rfl rfl)
theorem dX5_isValue_199 : decode cX5_isValue 199 = .ok (.iadd, 1) := dk_96 (dk_at dksX5_isValue_8 11 rfl rfl)
theorem dX5_isValue_200 : decode cX5_isValue 200 = .ok (.putfield 256, 3) := dk_181 1 0 (dk_at dksX5_isValue_8 12 rfl rfl)
theorem dX5_isValue_203 : decode cX5_isValue 203 = .ok (.iconst 1, 1) := dk_4 (dk_at dksX5_isValue_8 15 rfl rfl)
theorem dX5_isValue_204 : decode cX5_isValue 204 = .ok (.ireturn, 1) := dk_172 (dk_at dksX5_isValue_8 16 rfl rfl)
abbrev cX5_isOfOne : ByteArray := prog_46_method_55_code
def yX5_isOfOne : MethodName := ⟨RX5, "isOfOne", "(LSofaDigModel$Plan;I)Z"⟩
def dkwX5_isOfOne_2 : List UInt8 := [43, 182, 1, 22, 154, 0, 5, 3, 172, 42, 43, 28, 3, 182, 1, 12, 4, 172]
abbrev dktX5_isOfOne_2 : List UInt8 := dkwX5_isOfOne_2 ++ []
def dkwX5_isOfOne_1 : List UInt8 := [153, 0, 31, 42, 43, 182, 1, 22, 153, 0, 23, 42, 16, 41, 182, 1, 26, 154, 0, 16, 167, 0, 11, 42]
abbrev dktX5_isOfOne_1 : List UInt8 := dkwX5_isOfOne_1 ++ dktX5_isOfOne_2
def dkwX5_isOfOne_0 : List UInt8 := [42, 89, 180, 1, 0, 4, 96, 181, 1, 0, 28, 16, 21, 160, 0, 32, 42, 16, 40, 182, 1, 19]
abbrev dktX5_isOfOne_0 : List UInt8 := dkwX5_isOfOne_0 ++ dktX5_isOfOne_1
theorem dksX5_isOfOne_0 : cX5_isOfOne.data.toList.drop 0 = dktX5_isOfOne_0 := by decide +kernel
theorem dksX5_isOfOne_1 : cX5_isOfOne.data.toList.drop 22 = dktX5_isOfOne_1 := dk_seg dksX5_isOfOne_0 22 rfl rfl
theorem dksX5_isOfOne_2 : cX5_isOfOne.data.toList.drop 46 = dktX5_isOfOne_2 := dk_seg dksX5_isOfOne_1 24 rfl rfl
theorem dX5_isOfOne_0 : decode cX5_isOfOne 0 = .ok (.aload_n 0, 1) := dk_42 (dk_at dksX5_isOfOne_0 0 rfl rfl)
theorem dX5_isOfOne_1 : decode cX5_isOfOne 1 = .ok (.dup, 1) := dk_89 (dk_at dksX5_isOfOne_0 1 rfl rfl)
theorem dX5_isOfOne_2 : decode cX5_isOfOne 2 = .ok (.getfield 256, 3) := dk_180 1 0 (dk_at dksX5_isOfOne_0 2 rfl rfl)
theorem dX5_isOfOne_5 : decode cX5_isOfOne 5 = .ok (.iconst 1, 1) := dk_4 (dk_at dksX5_isOfOne_0 5 rfl rfl)
theorem dX5_isOfOne_6 : decode cX5_isOfOne 6 = .ok (.iadd, 1) := dk_96 (dk_at dksX5_isOfOne_0 6 rfl rfl)
theorem dX5_isOfOne_7 : decode cX5_isOfOne 7 = .ok (.putfield 256, 3) := dk_181 1 0 (dk_at dksX5_isOfOne_0 7 rfl rfl)
theorem dX5_isOfOne_10 : decode cX5_isOfOne 10 = .ok (.iload_n 2, 1) := dk_28 (dk_at dksX5_isOfOne_0 10 rfl rfl)
theorem dX5_isOfOne_11 : decode cX5_isOfOne 11 = .ok (.bipush 21, 2) := dk_16 21 (dk_at dksX5_isOfOne_0 11 rfl rfl)
theorem dX5_isOfOne_13 : decode cX5_isOfOne 13 = .ok (.if_icmp .ne 32, 3) := dk_160 0 32 (dk_at dksX5_isOfOne_0 13 rfl rfl)
theorem dX5_isOfOne_16 : decode cX5_isOfOne 16 = .ok (.aload_n 0, 1) := dk_42 (dk_at dksX5_isOfOne_0 16 rfl rfl)
theorem dX5_isOfOne_17 : decode cX5_isOfOne 17 = .ok (.bipush 40, 2) := dk_16 40 (dk_at dksX5_isOfOne_0 17 rfl rfl)
theorem dX5_isOfOne_19 : decode cX5_isOfOne 19 = .ok (.invokevirtual 275, 3) := dk_182 1 19 (dk_at dksX5_isOfOne_0 19 rfl rfl)
theorem dX5_isOfOne_22 : decode cX5_isOfOne 22 = .ok (.ifCond .eq 31, 3) := dk_153 0 31 (dk_at dksX5_isOfOne_1 0 rfl rfl)
theorem dX5_isOfOne_25 : decode cX5_isOfOne 25 = .ok (.aload_n 0, 1) := dk_42 (dk_at dksX5_isOfOne_1 3 rfl rfl)
theorem dX5_isOfOne_26 : decode cX5_isOfOne 26 = .ok (.aload_n 1, 1) := dk_43 (dk_at dksX5_isOfOne_1 4 rfl rfl)
theorem dX5_isOfOne_27 : decode cX5_isOfOne 27 = .ok (.invokevirtual 278, 3) := dk_182 1 22 (dk_at dksX5_isOfOne_1 5 rfl rfl)
theorem dX5_isOfOne_30 : decode cX5_isOfOne 30 = .ok (.ifCond .eq 23, 3) := dk_153 0 23 (dk_at dksX5_isOfOne_1 8 rfl rfl)
theorem dX5_isOfOne_33 : decode cX5_isOfOne 33 = .ok (.aload_n 0, 1) := dk_42 (dk_at dksX5_isOfOne_1 11 rfl rfl)
theorem dX5_isOfOne_34 : decode cX5_isOfOne 34 = .ok (.bipush 41, 2) := dk_16 41 (dk_at dksX5_isOfOne_1 12 rfl rfl)
theorem dX5_isOfOne_36 : decode cX5_isOfOne 36 = .ok (.invokevirtual 282, 3) := dk_182 1 26 (dk_at dksX5_isOfOne_1 14 rfl rfl)
theorem dX5_isOfOne_39 : decode cX5_isOfOne 39 = .ok (.ifCond .ne 16, 3) := dk_154 0 16 (dk_at dksX5_isOfOne_1 17 rfl rfl)
theorem dX5_isOfOne_42 : decode cX5_isOfOne 42 = .ok (.goto 11, 3) := dk_167 0 11 (dk_at dksX5_isOfOne_1 20 rfl rfl)
theorem dX5_isOfOne_45 : decode cX5_isOfOne 45 = .ok (.aload_n 0, 1) := dk_42 (dk_at dksX5_isOfOne_1 23 rfl rfl)
theorem dX5_isOfOne_46 : decode cX5_isOfOne 46 = .ok (.aload_n 1, 1) := dk_43 (dk_at dksX5_isOfOne_2 0 rfl rfl)
theorem dX5_isOfOne_47 : decode cX5_isOfOne 47 = .ok (.invokevirtual 278, 3) := dk_182 1 22 (dk_at dksX5_isOfOne_2 1 rfl rfl)
theorem dX5_isOfOne_50 : decode cX5_isOfOne 50 = .ok (.ifCond .ne 5, 3) := dk_154 0 5 (dk_at dksX5_isOfOne_2 4 rfl rfl)
theorem dX5_isOfOne_53 : decode cX5_isOfOne 53 = .ok (.iconst 0, 1) := dk_3 (dk_at dksX5_isOfOne_2 7 rfl rfl)
theorem dX5_isOfOne_54 : decode cX5_isOfOne 54 = .ok (.ireturn, 1) := dk_172 (dk_at dksX5_isOfOne_2 8 rfl rfl)
theorem dX5_isOfOne_55 : decode cX5_isOfOne 55 = .ok (.aload_n 0, 1) := dk_42 (dk_at dksX5_isOfOne_2 9 rfl rfl)
theorem dX5_isOfOne_56 : decode cX5_isOfOne 56 = .ok (.aload_n 1, 1) := dk_43 (dk_at dksX5_isOfOne_2 10 rfl rfl)
theorem dX5_isOfOne_57 : decode cX5_isOfOne 57 = .ok (.iload_n 2, 1) := dk_28 (dk_at dksX5_isOfOne_2 11 rfl rfl)
theorem dX5_isOfOne_58 : decode cX5_isOfOne 58 = .ok (.iconst 0, 1) := dk_3 (dk_at dksX5_isOfOne_2 12 rfl rfl)
theorem dX5_isOfOne_59 : decode cX5_isOfOne 59 = .ok (.invokevirtual 268, 3) := dk_182 1 12 (dk_at dksX5_isOfOne_2 13 rfl rfl)
theorem dX5_isOfOne_62 : decode cX5_isOfOne 62 = .ok (.iconst 1, 1) := dk_4 (dk_at dksX5_isOfOne_2 16 rfl rfl)
theorem dX5_isOfOne_63 : decode cX5_isOfOne 63 = .ok (.ireturn, 1) := dk_172 (dk_at dksX5_isOfOne_2 17 rfl rfl)
abbrev cX5_isOfTwo : ByteArray := prog_46_method_63_code
def yX5_isOfTwo : MethodName := ⟨RX5, "isOfTwo", "(LSofaDigModel$Plan;I)Z"⟩
def dkwX5_isOfTwo_2 : List UInt8 := [182, 1, 26, 154, 0, 5, 3, 172, 42, 43, 28, 3, 182, 1, 12, 4, 172]
abbrev dktX5_isOfTwo_2 : List UInt8 := dkwX5_isOfTwo_2 ++ []
def dkwX5_isOfTwo_1 : List UInt8 := [153, 0, 29, 42, 16, 44, 182, 1, 3, 153, 0, 20, 42, 43, 182, 1, 22, 153, 0, 12, 42, 16, 41]
abbrev dktX5_isOfTwo_1 : List UInt8 := dkwX5_isOfTwo_1 ++ dktX5_isOfTwo_2
def dkwX5_isOfTwo_0 : List UInt8 := [42, 89, 180, 1, 0, 4, 96, 181, 1, 0, 42, 16, 40, 182, 1, 19, 153, 0, 37, 42, 43, 182, 1, 22]
abbrev dktX5_isOfTwo_0 : List UInt8 := dkwX5_isOfTwo_0 ++ dktX5_isOfTwo_1
theorem dksX5_isOfTwo_0 : cX5_isOfTwo.data.toList.drop 0 = dktX5_isOfTwo_0 := by decide +kernel
theorem dksX5_isOfTwo_1 : cX5_isOfTwo.data.toList.drop 24 = dktX5_isOfTwo_1 := dk_seg dksX5_isOfTwo_0 24 rfl rfl
theorem dksX5_isOfTwo_2 : cX5_isOfTwo.data.toList.drop 47 = dktX5_isOfTwo_2 := dk_seg dksX5_isOfTwo_1 23 rfl rfl
theorem dX5_isOfTwo_0 : decode cX5_isOfTwo 0 = .ok (.aload_n 0, 1) := dk_42 (dk_at dksX5_isOfTwo_0 0 rfl rfl)
theorem dX5_isOfTwo_1 : decode cX5_isOfTwo 1 = .ok (.dup, 1) := dk_89 (dk_at dksX5_isOfTwo_0 1 rfl rfl)
theorem dX5_isOfTwo_2 : decode cX5_isOfTwo 2 = .ok (.getfield 256, 3) := dk_180 1 0 (dk_at dksX5_isOfTwo_0 2 rfl rfl)
theorem dX5_isOfTwo_5 : decode cX5_isOfTwo 5 = .ok (.iconst 1, 1) := dk_4 (dk_at dksX5_isOfTwo_0 5 rfl rfl)
theorem dX5_isOfTwo_6 : decode cX5_isOfTwo 6 = .ok (.iadd, 1) := dk_96 (dk_at dksX5_isOfTwo_0 6 rfl rfl)
theorem dX5_isOfTwo_7 : decode cX5_isOfTwo 7 = .ok (.putfield 256, 3) := dk_181 1 0 (dk_at dksX5_isOfTwo_0 7 rfl rfl)
theorem dX5_isOfTwo_10 : decode cX5_isOfTwo 10 = .ok (.aload_n 0, 1) := dk_42 (dk_at dksX5_isOfTwo_0 10 rfl rfl)
theorem dX5_isOfTwo_11 : decode cX5_isOfTwo 11 = .ok (.bipush 40, 2) := dk_16 40 (dk_at dksX5_isOfTwo_0 11 rfl rfl)
theorem dX5_isOfTwo_13 : decode cX5_isOfTwo 13 = .ok (.invokevirtual 275, 3) := dk_182 1 19 (dk_at dksX5_isOfTwo_0 13 rfl rfl)
theorem dX5_isOfTwo_16 : decode cX5_isOfTwo 16 = .ok (.ifCond .eq 37, 3) := dk_153 0 37 (dk_at dksX5_isOfTwo_0 16 rfl rfl)
theorem dX5_isOfTwo_19 : decode cX5_isOfTwo 19 = .ok (.aload_n 0, 1) := dk_42 (dk_at dksX5_isOfTwo_0 19 rfl rfl)
theorem dX5_isOfTwo_20 : decode cX5_isOfTwo 20 = .ok (.aload_n 1, 1) := dk_43 (dk_at dksX5_isOfTwo_0 20 rfl rfl)
theorem dX5_isOfTwo_21 : decode cX5_isOfTwo 21 = .ok (.invokevirtual 278, 3) := dk_182 1 22 (dk_at dksX5_isOfTwo_0 21 rfl rfl)
theorem dX5_isOfTwo_24 : decode cX5_isOfTwo 24 = .ok (.ifCond .eq 29, 3) := dk_153 0 29 (dk_at dksX5_isOfTwo_1 0 rfl rfl)
theorem dX5_isOfTwo_27 : decode cX5_isOfTwo 27 = .ok (.aload_n 0, 1) := dk_42 (dk_at dksX5_isOfTwo_1 3 rfl rfl)
theorem dX5_isOfTwo_28 : decode cX5_isOfTwo 28 = .ok (.bipush 44, 2) := dk_16 44 (dk_at dksX5_isOfTwo_1 4 rfl rfl)
theorem dX5_isOfTwo_30 : decode cX5_isOfTwo 30 = .ok (.invokevirtual 259, 3) := dk_182 1 3 (dk_at dksX5_isOfTwo_1 6 rfl rfl)
theorem dX5_isOfTwo_33 : decode cX5_isOfTwo 33 = .ok (.ifCond .eq 20, 3) := dk_153 0 20 (dk_at dksX5_isOfTwo_1 9 rfl rfl)
theorem dX5_isOfTwo_36 : decode cX5_isOfTwo 36 = .ok (.aload_n 0, 1) := dk_42 (dk_at dksX5_isOfTwo_1 12 rfl rfl)
theorem dX5_isOfTwo_37 : decode cX5_isOfTwo 37 = .ok (.aload_n 1, 1) := dk_43 (dk_at dksX5_isOfTwo_1 13 rfl rfl)
theorem dX5_isOfTwo_38 : decode cX5_isOfTwo 38 = .ok (.invokevirtual 278, 3) := dk_182 1 22 (dk_at dksX5_isOfTwo_1 14 rfl rfl)
theorem dX5_isOfTwo_41 : decode cX5_isOfTwo 41 = .ok (.ifCond .eq 12, 3) := dk_153 0 12 (dk_at dksX5_isOfTwo_1 17 rfl rfl)
theorem dX5_isOfTwo_44 : decode cX5_isOfTwo 44 = .ok (.aload_n 0, 1) := dk_42 (dk_at dksX5_isOfTwo_1 20 rfl rfl)
theorem dX5_isOfTwo_45 : decode cX5_isOfTwo 45 = .ok (.bipush 41, 2) := dk_16 41 (dk_at dksX5_isOfTwo_1 21 rfl rfl)
theorem dX5_isOfTwo_47 : decode cX5_isOfTwo 47 = .ok (.invokevirtual 282, 3) := dk_182 1 26 (dk_at dksX5_isOfTwo_2 0 rfl rfl)
theorem dX5_isOfTwo_50 : decode cX5_isOfTwo 50 = .ok (.ifCond .ne 5, 3) := dk_154 0 5 (dk_at dksX5_isOfTwo_2 3 rfl rfl)
theorem dX5_isOfTwo_53 : decode cX5_isOfTwo 53 = .ok (.iconst 0, 1) := dk_3 (dk_at dksX5_isOfTwo_2 6 rfl rfl)
theorem dX5_isOfTwo_54 : decode cX5_isOfTwo 54 = .ok (.ireturn, 1) := dk_172 (dk_at dksX5_isOfTwo_2 7 rfl rfl)
theorem dX5_isOfTwo_55 : decode cX5_isOfTwo 55 = .ok (.aload_n 0, 1) := dk_42 (dk_at dksX5_isOfTwo_2 8 rfl rfl)
theorem dX5_isOfTwo_56 : decode cX5_isOfTwo 56 = .ok (.aload_n 1, 1) := dk_43 (dk_at dksX5_isOfTwo_2 9 rfl rfl)
theorem dX5_isOfTwo_57 : decode cX5_isOfTwo 57 = .ok (.iload_n 2, 1) := dk_28 (dk_at dksX5_isOfTwo_2 10 rfl rfl)
theorem dX5_isOfTwo_58 : decode cX5_isOfTwo 58 = .ok (.iconst 0, 1) := dk_3 (dk_at dksX5_isOfTwo_2 11 rfl rfl)
theorem dX5_isOfTwo_59 : decode cX5_isOfTwo 59 = .ok (.invokevirtual 268, 3) := dk_182 1 12 (dk_at dksX5_isOfTwo_2 12 rfl rfl)
theorem dX5_isOfTwo_62 : decode cX5_isOfTwo 62 = .ok (.iconst 1, 1) := dk_4 (dk_at dksX5_isOfTwo_2 15 rfl rfl)
theorem dX5_isOfTwo_63 : decode cX5_isOfTwo 63 = .ok (.ireturn, 1) := dk_172 (dk_at dksX5_isOfTwo_2 16 rfl rfl)
abbrev mX5_isTest : sd_Y := (yX5_isTest, cX5_isTest, 2, some (.boolean), none)
abbrev mX5_isBoth : sd_Y := (yX5_isBoth, cX5_isBoth, 2, some (.boolean), none)
abbrev mX5_isSingle : sd_Y := (yX5_isSingle, cX5_isSingle, 3, some (.boolean), none)
abbrev mX5_isCompare : sd_Y := (yX5_isCompare, cX5_isCompare, 4, some (.boolean), none)
abbrev mX5_isSum : sd_Y := (yX5_isSum, cX5_isSum, 3, some (.boolean), none)
abbrev mX5_isProduct : sd_Y := (yX5_isProduct, cX5_isProduct, 3, some (.boolean), none)
abbrev mX5_isValue : sd_Y := (yX5_isValue, cX5_isValue, 3, some (.boolean), none)
abbrev mX5_isOfOne : sd_Y := (yX5_isOfOne, cX5_isOfOne, 3, some (.boolean), none)
abbrev mX5_isOfTwo : sd_Y := (yX5_isOfTwo, cX5_isOfTwo, 3, some (.boolean), none)
abbrev TMP : Type := (Nat → Nat → sd_M Int32) × (Nat → Nat → sd_M Int32) × (Nat → Nat → sd_M Int32) × (Nat → Nat → sd_M Int32) × (Nat → Nat → sd_M Int32) × (Nat → Nat → sd_M Int32) × (Nat → Nat → sd_M Int32) × (Nat → Nat → Int32 → sd_M Int32) × (Nat → Nat → Int32 → sd_M Int32)
def HMP (l : Launch) (G : sd_G) (d : Nat) (R : TMP) : Prop := (∀ (a0 : Nat) (a1 : Nat) (h : sd_H) (ρ : Int32) (cT : Nat × Nat) (h2 : sd_H), R.1 a0 a1 h = some (ρ, cT, h2) → sd_Met mX5_isTest ((l, G), (d + 8, 45 * d + 300), [.ref a0, .ref a1], (sd_oI ρ, h2), cT) h) ∧
  (∀ (a0 : Nat) (a1 : Nat) (h : sd_H) (ρ : Int32) (cT : Nat × Nat) (h2 : sd_H), R.2.1 a0 a1 h = some (ρ, cT, h2) → sd_Met mX5_isBoth ((l, G), (d + 8, 45 * d + 300), [.ref a0, .ref a1], (sd_oI ρ, h2), cT) h) ∧
  (∀ (a0 : Nat) (a1 : Nat) (h : sd_H) (ρ : Int32) (cT : Nat × Nat) (h2 : sd_H), R.2.2.1 a0 a1 h = some (ρ, cT, h2) → sd_Met mX5_isSingle ((l, G), (d + 8, 45 * d + 300), [.ref a0, .ref a1], (sd_oI ρ, h2), cT) h) ∧
  (∀ (a0 : Nat) (a1 : Nat) (h : sd_H) (ρ : Int32) (cT : Nat × Nat) (h2 : sd_H), R.2.2.2.1 a0 a1 h = some (ρ, cT, h2) → sd_Met mX5_isCompare ((l, G), (d + 8, 45 * d + 300), [.ref a0, .ref a1], (sd_oI ρ, h2), cT) h) ∧
  (∀ (a0 : Nat) (a1 : Nat) (h : sd_H) (ρ : Int32) (cT : Nat × Nat) (h2 : sd_H), R.2.2.2.2.1 a0 a1 h = some (ρ, cT, h2) → sd_Met mX5_isSum ((l, G), (d + 8, 45 * d + 300), [.ref a0, .ref a1], (sd_oI ρ, h2), cT) h) ∧
  (∀ (a0 : Nat) (a1 : Nat) (h : sd_H) (ρ : Int32) (cT : Nat × Nat) (h2 : sd_H), R.2.2.2.2.2.1 a0 a1 h = some (ρ, cT, h2) → sd_Met mX5_isProduct ((l, G), (d + 8, 45 * d + 300), [.ref a0, .ref a1], (sd_oI ρ, h2), cT) h) ∧
  (∀ (a0 : Nat) (a1 : Nat) (h : sd_H) (ρ : Int32) (cT : Nat × Nat) (h2 : sd_H), R.2.2.2.2.2.2.1 a0 a1 h = some (ρ, cT, h2) → sd_Met mX5_isValue ((l, G), (d + 8, 45 * d + 300), [.ref a0, .ref a1], (sd_oI ρ, h2), cT) h) ∧
  (∀ (a0 : Nat) (a1 : Nat) (a2 : Int32) (h : sd_H) (ρ : Int32) (cT : Nat × Nat) (h2 : sd_H), R.2.2.2.2.2.2.2.1 a0 a1 a2 h = some (ρ, cT, h2) → sd_Met mX5_isOfOne ((l, G), (d + 8, 45 * d + 300), [.ref a0, .ref a1, .int a2], (sd_oI ρ, h2), cT) h) ∧
  (∀ (a0 : Nat) (a1 : Nat) (a2 : Int32) (h : sd_H) (ρ : Int32) (cT : Nat × Nat) (h2 : sd_H), R.2.2.2.2.2.2.2.2 a0 a1 a2 h = some (ρ, cT, h2) → sd_Met mX5_isOfTwo ((l, G), (d + 8, 45 * d + 300), [.ref a0, .ref a1, .int a2], (sd_oI ρ, h2), cT) h)
theorem q2998 : (Jvm.Cond.methodLink "SofaDigModel" (291 : Nat) ({ cls := "SofaDigModel", name := "isTest", desc := "(LSofaDigModel$Plan;)Z" } : Jvm.MethodName)) ∈ lw_all := lw_g (lw_at lw_m13 3 rfl) rfl
theorem q3000 : (Jvm.Cond.instanceMethod ({ cls := "SofaDigModel", name := "isTest", desc := "(LSofaDigModel$Plan;)Z" } : Jvm.MethodName)) ∈ lw_all := lw_g (lw_at lw_m13 5 rfl) rfl
theorem q3001 : (Jvm.Cond.code ({ cls := "SofaDigModel", name := "isTest", desc := "(LSofaDigModel$Plan;)Z" } : Jvm.MethodName) prog_46_method_56_code (2 : Nat) (Option.some Jvm.ClassFile.FieldType.boolean)) ∈ lw_all := lw_g (lw_at lw_m13 6 rfl) rfl
theorem q3002 : (Jvm.Cond.methodLink "SofaDigModel" (285 : Nat) ({ cls := "SofaDigModel", name := "isBoth", desc := "(LSofaDigModel$Plan;)Z" } : Jvm.MethodName)) ∈ lw_all := lw_g (lw_at lw_m13 7 rfl) rfl
theorem q3004 : (Jvm.Cond.instanceMethod ({ cls := "SofaDigModel", name := "isBoth", desc := "(LSofaDigModel$Plan;)Z" } : Jvm.MethodName)) ∈ lw_all := lw_g (lw_at lw_m13 9 rfl) rfl
theorem q3005 : (Jvm.Cond.code ({ cls := "SofaDigModel", name := "isBoth", desc := "(LSofaDigModel$Plan;)Z" } : Jvm.MethodName) prog_46_method_57_code (2 : Nat) (Option.some Jvm.ClassFile.FieldType.boolean)) ∈ lw_all := lw_g (lw_at lw_m13 10 rfl) rfl
theorem q3006 : (Jvm.Cond.methodLink "SofaDigModel" (288 : Nat) ({ cls := "SofaDigModel", name := "isSingle", desc := "(LSofaDigModel$Plan;)Z" } : Jvm.MethodName)) ∈ lw_all := lw_g (lw_at lw_m13 11 rfl) rfl
theorem q3008 : (Jvm.Cond.instanceMethod ({ cls := "SofaDigModel", name := "isSingle", desc := "(LSofaDigModel$Plan;)Z" } : Jvm.MethodName)) ∈ lw_all := lw_g (lw_at lw_m13 13 rfl) rfl
theorem q3009 : (Jvm.Cond.code ({ cls := "SofaDigModel", name := "isSingle", desc := "(LSofaDigModel$Plan;)Z" } : Jvm.MethodName) prog_46_method_58_code (3 : Nat) (Option.some Jvm.ClassFile.FieldType.boolean)) ∈ lw_all := lw_g (lw_at lw_m13 14 rfl) rfl
theorem q3010 : (Jvm.Cond.methodLink "SofaDigModel" (275 : Nat) ({ cls := "SofaDigModel", name := "deeper", desc := "(I)Z" } : Jvm.MethodName)) ∈ lw_all := lw_g (lw_at lw_m13 15 rfl) rfl
theorem q3012 : (Jvm.Cond.instanceMethod ({ cls := "SofaDigModel", name := "deeper", desc := "(I)Z" } : Jvm.MethodName)) ∈ lw_all := lw_g (lw_at lw_m13 17 rfl) rfl
theorem q3018 : (Jvm.Cond.methodLink "SofaDigModel" (282 : Nat) ({ cls := "SofaDigModel", name := "closes", desc := "(I)Z" } : Jvm.MethodName)) ∈ lw_all := lw_g (lw_at lw_m13 23 rfl) rfl
theorem q3020 : (Jvm.Cond.instanceMethod ({ cls := "SofaDigModel", name := "closes", desc := "(I)Z" } : Jvm.MethodName)) ∈ lw_all := lw_g (lw_at lw_m13 25 rfl) rfl
theorem q3022 : (Jvm.Cond.methodLink "SofaDigModel" (294 : Nat) ({ cls := "SofaDigModel", name := "isAbout", desc := "(LSofaDigModel$Plan;I)Z" } : Jvm.MethodName)) ∈ lw_all := lw_g (lw_at lw_m13 27 rfl) rfl
theorem q3024 : (Jvm.Cond.instanceMethod ({ cls := "SofaDigModel", name := "isAbout", desc := "(LSofaDigModel$Plan;I)Z" } : Jvm.MethodName)) ∈ lw_all := lw_g (lw_at lw_m13 29 rfl) rfl
theorem q3026 : (Jvm.Cond.methodLink "SofaDigModel" (298 : Nat) ({ cls := "SofaDigModel", name := "isOfOne", desc := "(LSofaDigModel$Plan;I)Z" } : Jvm.MethodName)) ∈ lw_all := lw_g (lw_at lw_m13 31 rfl) rfl
theorem q3028 : (Jvm.Cond.instanceMethod ({ cls := "SofaDigModel", name := "isOfOne", desc := "(LSofaDigModel$Plan;I)Z" } : Jvm.MethodName)) ∈ lw_all := lw_g (lw_at lw_m13 33 rfl) rfl
theorem q3029 : (Jvm.Cond.code ({ cls := "SofaDigModel", name := "isOfOne", desc := "(LSofaDigModel$Plan;I)Z" } : Jvm.MethodName) prog_46_method_55_code (3 : Nat) (Option.some Jvm.ClassFile.FieldType.boolean)) ∈ lw_all := lw_g (lw_at lw_m13 34 rfl) rfl
theorem q3030 : (Jvm.Cond.methodLink "SofaDigModel" (278 : Nat) ({ cls := "SofaDigModel", name := "isSum", desc := "(LSofaDigModel$Plan;)Z" } : Jvm.MethodName)) ∈ lw_all := lw_g (lw_at lw_m13 35 rfl) rfl
theorem q3032 : (Jvm.Cond.instanceMethod ({ cls := "SofaDigModel", name := "isSum", desc := "(LSofaDigModel$Plan;)Z" } : Jvm.MethodName)) ∈ lw_all := lw_g (lw_at lw_m13 37 rfl) rfl
theorem q3033 : (Jvm.Cond.code ({ cls := "SofaDigModel", name := "isSum", desc := "(LSofaDigModel$Plan;)Z" } : Jvm.MethodName) prog_46_method_60_code (3 : Nat) (Option.some Jvm.ClassFile.FieldType.boolean)) ∈ lw_all := lw_g (lw_at lw_m13 38 rfl) rfl
theorem q3034 : (Jvm.Cond.methodLink "SofaDigModel" (304 : Nat) ({ cls := "SofaDigModel", name := "isProduct", desc := "(LSofaDigModel$Plan;)Z" } : Jvm.MethodName)) ∈ lw_all := lw_g (lw_at lw_m13 39 rfl) rfl
theorem q3036 : (Jvm.Cond.instanceMethod ({ cls := "SofaDigModel", name := "isProduct", desc := "(LSofaDigModel$Plan;)Z" } : Jvm.MethodName)) ∈ lw_all := lw_g (lw_at lw_m13 41 rfl) rfl
theorem q3037 : (Jvm.Cond.code ({ cls := "SofaDigModel", name := "isProduct", desc := "(LSofaDigModel$Plan;)Z" } : Jvm.MethodName) prog_46_method_61_code (3 : Nat) (Option.some Jvm.ClassFile.FieldType.boolean)) ∈ lw_all := lw_g (lw_at lw_m13 42 rfl) rfl
theorem q3038 : (Jvm.Cond.methodLink "SofaDigModel" (307 : Nat) ({ cls := "SofaDigModel", name := "isValue", desc := "(LSofaDigModel$Plan;)Z" } : Jvm.MethodName)) ∈ lw_all := lw_g (lw_at lw_m13 43 rfl) rfl
theorem q3040 : (Jvm.Cond.instanceMethod ({ cls := "SofaDigModel", name := "isValue", desc := "(LSofaDigModel$Plan;)Z" } : Jvm.MethodName)) ∈ lw_all := lw_g (lw_at lw_m13 45 rfl) rfl
theorem q3041 : (Jvm.Cond.code ({ cls := "SofaDigModel", name := "isValue", desc := "(LSofaDigModel$Plan;)Z" } : Jvm.MethodName) prog_46_method_62_code (3 : Nat) (Option.some Jvm.ClassFile.FieldType.boolean)) ∈ lw_all := lw_g (lw_at lw_m13 46 rfl) rfl
theorem q3042 : (Jvm.Cond.methodLink "SofaDigModel" (310 : Nat) ({ cls := "SofaDigModel", name := "isOfTwo", desc := "(LSofaDigModel$Plan;I)Z" } : Jvm.MethodName)) ∈ lw_all := lw_g (lw_at lw_m13 47 rfl) rfl
theorem q3044 : (Jvm.Cond.instanceMethod ({ cls := "SofaDigModel", name := "isOfTwo", desc := "(LSofaDigModel$Plan;I)Z" } : Jvm.MethodName)) ∈ lw_all := lw_g (lw_at lw_m13 49 rfl) rfl
theorem q3045 : (Jvm.Cond.code ({ cls := "SofaDigModel", name := "isOfTwo", desc := "(LSofaDigModel$Plan;I)Z" } : Jvm.MethodName) prog_46_method_63_code (3 : Nat) (Option.some Jvm.ClassFile.FieldType.boolean)) ∈ lw_all := lw_g (lw_at lw_m13 50 rfl) rfl
theorem q3046 : (Jvm.Cond.methodLink "SofaDigModel" (301 : Nat) ({ cls := "SofaDigModel", name := "isCompare", desc := "(LSofaDigModel$Plan;)Z" } : Jvm.MethodName)) ∈ lw_all := lw_g (lw_at lw_m13 51 rfl) rfl
theorem q3048 : (Jvm.Cond.instanceMethod ({ cls := "SofaDigModel", name := "isCompare", desc := "(LSofaDigModel$Plan;)Z" } : Jvm.MethodName)) ∈ lw_all := lw_g (lw_at lw_m13 53 rfl) rfl
theorem q3049 : (Jvm.Cond.code ({ cls := "SofaDigModel", name := "isCompare", desc := "(LSofaDigModel$Plan;)Z" } : Jvm.MethodName) prog_46_method_59_code (4 : Nat) (Option.some Jvm.ClassFile.FieldType.boolean)) ∈ lw_all := lw_g (lw_at lw_m13 54 rfl) rfl
/-! SofaDigModel.isTest(LSofaDigModel$Plan;)Z -/
def fX5_isTest_b10 (G : sd_G) (R : TMP) (k10 : Nat × Nat → sd_M Int32) (w0 : Nat) (w1 : Nat) : sd_M Int32 :=
  sd_bnd (sd_isC G 4 w0) fun _ =>
  sd_bnd (fX5_eat G w0 26) fun r2 =>
  if r2 = 0 then (
    sd_ret 1)
  else (
    sd_bnd (sd_isC G 4 w0) fun _ =>
    sd_bnd (R.2.1 w0 w1) fun r3 =>
    if r3 = 0 then (
      sd_ret 0)
    else (
      sd_bnd (sd_isC G 4 w0) fun _ =>
      sd_bnd (fX5_put G w0 w1 26 0) fun _ =>
      k10 (w0, w1)))
set_option maxHeartbeats 4000000 in
theorem sX5_isTest_b10 (l : Launch) (G : sd_G) (d : Nat) (R : TMP) (HR : HMP l G d R) (a0 : Nat) (a1 : Nat) (ρ : Int32) (h2 : sd_H) (cT : Nat × Nat) (k10 : Nat × Nat → sd_M Int32) (Hk10 : ∀ (q : Nat × Nat) (h : sd_H) (c : Nat × Nat), k10 q h = some (ρ, c, h2) → sd_J mX5_isTest ((l, G), (d + 1 + 8, 45 * (d + 1) + 300), [.ref a0, .ref a1], (sd_oI ρ, h2), cT) 10 [(0, .ref q.1), (1, .ref q.2)] [] h c) (w0 : Nat) (w1 : Nat) (h : sd_H) (c : Nat × Nat) (hf : fX5_isTest_b10 G R k10 w0 w1 h = some (ρ, c, h2)) : sd_J mX5_isTest ((l, G), (d + 1 + 8, 45 * (d + 1) + 300), [.ref a0, .ref a1], (sd_oI ρ, h2), cT) 10 [(0, .ref w0), (1, .ref w1)] [] h c := by
  unfold fX5_isTest_b10 at hf
  refine sj_aload_n 0 dX5_isTest_10 rfl ?_
  refine sj_bipush (v := 26) dX5_isTest_11 (by decide) ?_
  obtain ⟨fs13, he13, hf⟩ := sd_isC_some hf
  refine sj_cI (rest := []) (fun _ _ _ e => sj_runV (n := 1) (As := [.int 26]) (rest := []) (sX5_eat l G w0 26 h _ _ _ e) he13 rfl rfl rfl rfl q2977 q2979 qs51 q127 q2980 (by decide +kernel) rfl rfl ⟨by show 0 + 1 ≤ d + 1 + 8; omega, by show 8 + (2 + 11) + 0 ≤ 45 * (d + 1) + 300; omega⟩ rfl (Nat.le_of_ble_eq_true rfl) dX5_isTest_13) hf (fun r2 h c hf => ?_)
  refine sj_ifeq 40 hf dX5_isTest_16 (by decide) (fun g16 hf => ?_) (fun g16 hf => ?_)
  · refine sj_iconst (v := 1) dX5_isTest_40 (by decide) ?_
    exact sj_zretC (o := sd_oI) (ty := .boolean) rfl hf rfl rfl rfl dX5_isTest_41
  · refine sj_aload_n 0 dX5_isTest_19 rfl ?_
    refine sj_aload_n 1 dX5_isTest_20 rfl ?_
    obtain ⟨fs21, he21, hf⟩ := sd_isC_some hf
    refine sj_cI (rest := []) (fun _ _ _ e => sj_runV (n := 1) (As := [.ref w1]) (rest := []) (HR.2.1 w0 w1 h _ _ _ e) he21 rfl rfl rfl rfl q3002 q3004 qs57 q127 q3005 (by decide +kernel) rfl rfl ⟨by show d + 8 + 1 ≤ d + 1 + 8; omega, by show 8 + (2 + 11) + (45 * d + 300) ≤ 45 * (d + 1) + 300; omega⟩ rfl (Nat.le_of_ble_eq_true rfl) dX5_isTest_21) hf (fun r3 h c hf => ?_)
    refine sj_ifne 29 hf dX5_isTest_24 (by decide) (fun g24 hf => ?_) (fun g24 hf => ?_)
    · refine sj_aload_n 0 dX5_isTest_29 rfl ?_
      refine sj_aload_n 1 dX5_isTest_30 rfl ?_
      refine sj_bipush (v := 26) dX5_isTest_31 (by decide) ?_
      refine sj_iconst (v := 0) dX5_isTest_33 (by decide) ?_
      obtain ⟨fs34, he34, hf⟩ := sd_isC_some hf
      refine sj_cV (rest := []) (fun _ _ _ e => sj_runV (n := 3) (As := [.ref w1, .int 26, .int 0]) (rest := []) (sX5_put l G w0 w1 26 0 h _ _ _ e) he34 rfl rfl rfl rfl q3014 q3016 qs60 q127 q3017 (by decide +kernel) rfl rfl ⟨by show 0 + 1 ≤ d + 1 + 8; omega, by show 8 + (4 + 11) + 0 ≤ 45 * (d + 1) + 300; omega⟩ rfl (Nat.le_of_ble_eq_true rfl) dX5_isTest_34) hf (fun h c hf => ?_)
      refine sj_goto 10 dX5_isTest_37 (by decide) ?_
      exact sj_loc [0, 1] rfl (Hk10 (w0, w1) _ _ hf)
    · refine sj_iconst (v := 0) dX5_isTest_27 (by decide) ?_
      exact sj_zretC (o := sd_oI) (ty := .boolean) rfl hf rfl rfl rfl dX5_isTest_28
theorem sX5_isTest_b10_loop (l : Launch) (G : sd_G) (d : Nat) (R : TMP) (HR : HMP l G d R) (a0 : Nat) (a1 : Nat) (ρ : Int32) (h2 : sd_H) (cT : Nat × Nat) (n : Nat) : ∀ (q : Nat × Nat) (h : sd_H) (c : Nat × Nat), sd_loop (fun k s => fX5_isTest_b10 G R k s.1 s.2) n q h = some (ρ, c, h2) → sd_J mX5_isTest ((l, G), (d + 1 + 8, 45 * (d + 1) + 300), [.ref a0, .ref a1], (sd_oI ρ, h2), cT) 10 [(0, .ref q.1), (1, .ref q.2)] [] h c := by
  induction n with
  | zero => intro q h c hf; cases hf
  | succ n ih => intro q h c hf; exact sX5_isTest_b10 l G d R HR a0 a1 ρ h2 cT _ ih _ _ _ _ hf
def fX5_isTest (G : sd_G) (R : TMP) (a0 : Nat) (a1 : Nat) : sd_M Int32 :=
  sd_bnd (sd_isC G 4 a0) fun _ =>
  sd_bnd (R.2.1 a0 a1) fun r1 =>
  if r1 = 0 then (
    sd_ret 0)
  else (
    sd_loop (fun k s => fX5_isTest_b10 G R k s.1 s.2) sd_FU (a0, a1))
set_option maxHeartbeats 4000000 in
theorem sX5_isTest (l : Launch) (G : sd_G) (d : Nat) (R : TMP) (HR : HMP l G d R) (a0 : Nat) (a1 : Nat) (h : sd_H) (ρ : Int32) (cT : Nat × Nat) (h2 : sd_H) (hf : fX5_isTest G R a0 a1 h = some (ρ, cT, h2)) : sd_Met mX5_isTest ((l, G), (d + 1 + 8, 45 * (d + 1) + 300), [.ref a0, .ref a1], (sd_oI ρ, h2), cT) h := by
  refine sd_entry (plainFor_of_name rfl) rfl (Nat.le_of_ble_eq_true rfl) ?_
  show sd_J mX5_isTest ((l, G), (d + 1 + 8, 45 * (d + 1) + 300), [.ref a0, .ref a1], (sd_oI ρ, h2), cT) 0 [(0, .ref a0), (1, .ref a1)] [] h cT
  unfold fX5_isTest at hf
  refine sj_aload_n 0 dX5_isTest_0 rfl ?_
  refine sj_aload_n 1 dX5_isTest_1 rfl ?_
  obtain ⟨fs2, he2, hf⟩ := sd_isC_some hf
  refine sj_cI (rest := []) (fun _ _ _ e => sj_runV (n := 1) (As := [.ref a1]) (rest := []) (HR.2.1 a0 a1 h _ _ _ e) he2 rfl rfl rfl rfl q3002 q3004 qs57 q127 q3005 (by decide +kernel) rfl rfl ⟨by show d + 8 + 1 ≤ d + 1 + 8; omega, by show 8 + (2 + 11) + (45 * d + 300) ≤ 45 * (d + 1) + 300; omega⟩ rfl (Nat.le_of_ble_eq_true rfl) dX5_isTest_2) hf (fun r1 h c hf => ?_)
  refine sj_ifne 10 hf dX5_isTest_5 (by decide) (fun g5 hf => ?_) (fun g5 hf => ?_)
  · exact sj_loc [0, 1] rfl (sX5_isTest_b10_loop l G d R HR a0 a1 ρ h2 cT sd_FU (a0, a1) _ _ hf)
  · refine sj_iconst (v := 0) dX5_isTest_8 (by decide) ?_
    exact sj_zretC (o := sd_oI) (ty := .boolean) rfl hf rfl rfl rfl dX5_isTest_9
/-! SofaDigModel.isBoth(LSofaDigModel$Plan;)Z -/
def fX5_isBoth_b10 (G : sd_G) (R : TMP) (k10 : Nat × Nat → sd_M Int32) (w0 : Nat) (w1 : Nat) : sd_M Int32 :=
  sd_bnd (sd_isC G 4 w0) fun _ =>
  sd_bnd (fX5_eat G w0 25) fun r2 =>
  if r2 = 0 then (
    sd_ret 1)
  else (
    sd_bnd (sd_isC G 4 w0) fun _ =>
    sd_bnd (R.2.2.1 w0 w1) fun r3 =>
    if r3 = 0 then (
      sd_ret 0)
    else (
      sd_bnd (sd_isC G 4 w0) fun _ =>
      sd_bnd (fX5_put G w0 w1 25 0) fun _ =>
      k10 (w0, w1)))
set_option maxHeartbeats 4000000 in
theorem sX5_isBoth_b10 (l : Launch) (G : sd_G) (d : Nat) (R : TMP) (HR : HMP l G d R) (a0 : Nat) (a1 : Nat) (ρ : Int32) (h2 : sd_H) (cT : Nat × Nat) (k10 : Nat × Nat → sd_M Int32) (Hk10 : ∀ (q : Nat × Nat) (h : sd_H) (c : Nat × Nat), k10 q h = some (ρ, c, h2) → sd_J mX5_isBoth ((l, G), (d + 1 + 8, 45 * (d + 1) + 300), [.ref a0, .ref a1], (sd_oI ρ, h2), cT) 10 [(0, .ref q.1), (1, .ref q.2)] [] h c) (w0 : Nat) (w1 : Nat) (h : sd_H) (c : Nat × Nat) (hf : fX5_isBoth_b10 G R k10 w0 w1 h = some (ρ, c, h2)) : sd_J mX5_isBoth ((l, G), (d + 1 + 8, 45 * (d + 1) + 300), [.ref a0, .ref a1], (sd_oI ρ, h2), cT) 10 [(0, .ref w0), (1, .ref w1)] [] h c := by
  unfold fX5_isBoth_b10 at hf
  refine sj_aload_n 0 dX5_isBoth_10 rfl ?_
  refine sj_bipush (v := 25) dX5_isBoth_11 (by decide) ?_
  obtain ⟨fs13, he13, hf⟩ := sd_isC_some hf
  refine sj_cI (rest := []) (fun _ _ _ e => sj_runV (n := 1) (As := [.int 25]) (rest := []) (sX5_eat l G w0 25 h _ _ _ e) he13 rfl rfl rfl rfl q2977 q2979 qs51 q127 q2980 (by decide +kernel) rfl rfl ⟨by show 0 + 1 ≤ d + 1 + 8; omega, by show 8 + (2 + 11) + 0 ≤ 45 * (d + 1) + 300; omega⟩ rfl (Nat.le_of_ble_eq_true rfl) dX5_isBoth_13) hf (fun r2 h c hf => ?_)
  refine sj_ifeq 40 hf dX5_isBoth_16 (by decide) (fun g16 hf => ?_) (fun g16 hf => ?_)
  · refine sj_iconst (v := 1) dX5_isBoth_40 (by decide) ?_
    exact sj_zretC (o := sd_oI) (ty := .boolean) rfl hf rfl rfl rfl dX5_isBoth_41
  · refine sj_aload_n 0 dX5_isBoth_19 rfl ?_
    refine sj_aload_n 1 dX5_isBoth_20 rfl ?_
    obtain ⟨fs21, he21, hf⟩ := sd_isC_some hf
    refine sj_cI (rest := []) (fun _ _ _ e => sj_runV (n := 1) (As := [.ref w1]) (rest := []) (HR.2.2.1 w0 w1 h _ _ _ e) he21 rfl rfl rfl rfl q3006 q3008 qs58 q127 q3009 (by decide +kernel) rfl rfl ⟨by show d + 8 + 1 ≤ d + 1 + 8; omega, by show 8 + (3 + 11) + (45 * d + 300) ≤ 45 * (d + 1) + 300; omega⟩ rfl (Nat.le_of_ble_eq_true rfl) dX5_isBoth_21) hf (fun r3 h c hf => ?_)
    refine sj_ifne 29 hf dX5_isBoth_24 (by decide) (fun g24 hf => ?_) (fun g24 hf => ?_)
    · refine sj_aload_n 0 dX5_isBoth_29 rfl ?_
      refine sj_aload_n 1 dX5_isBoth_30 rfl ?_
      refine sj_bipush (v := 25) dX5_isBoth_31 (by decide) ?_
      refine sj_iconst (v := 0) dX5_isBoth_33 (by decide) ?_
      obtain ⟨fs34, he34, hf⟩ := sd_isC_some hf
      refine sj_cV (rest := []) (fun _ _ _ e => sj_runV (n := 3) (As := [.ref w1, .int 25, .int 0]) (rest := []) (sX5_put l G w0 w1 25 0 h _ _ _ e) he34 rfl rfl rfl rfl q3014 q3016 qs60 q127 q3017 (by decide +kernel) rfl rfl ⟨by show 0 + 1 ≤ d + 1 + 8; omega, by show 8 + (4 + 11) + 0 ≤ 45 * (d + 1) + 300; omega⟩ rfl (Nat.le_of_ble_eq_true rfl) dX5_isBoth_34) hf (fun h c hf => ?_)
      refine sj_goto 10 dX5_isBoth_37 (by decide) ?_
      exact sj_loc [0, 1] rfl (Hk10 (w0, w1) _ _ hf)
    · refine sj_iconst (v := 0) dX5_isBoth_27 (by decide) ?_
      exact sj_zretC (o := sd_oI) (ty := .boolean) rfl hf rfl rfl rfl dX5_isBoth_28
theorem sX5_isBoth_b10_loop (l : Launch) (G : sd_G) (d : Nat) (R : TMP) (HR : HMP l G d R) (a0 : Nat) (a1 : Nat) (ρ : Int32) (h2 : sd_H) (cT : Nat × Nat) (n : Nat) : ∀ (q : Nat × Nat) (h : sd_H) (c : Nat × Nat), sd_loop (fun k s => fX5_isBoth_b10 G R k s.1 s.2) n q h = some (ρ, c, h2) → sd_J mX5_isBoth ((l, G), (d + 1 + 8, 45 * (d + 1) + 300), [.ref a0, .ref a1], (sd_oI ρ, h2), cT) 10 [(0, .ref q.1), (1, .ref q.2)] [] h c := by
  induction n with
  | zero => intro q h c hf; cases hf
  | succ n ih => intro q h c hf; exact sX5_isBoth_b10 l G d R HR a0 a1 ρ h2 cT _ ih _ _ _ _ hf
def fX5_isBoth (G : sd_G) (R : TMP) (a0 : Nat) (a1 : Nat) : sd_M Int32 :=
  sd_bnd (sd_isC G 4 a0) fun _ =>
  sd_bnd (R.2.2.1 a0 a1) fun r1 =>
  if r1 = 0 then (
    sd_ret 0)
  else (
    sd_loop (fun k s => fX5_isBoth_b10 G R k s.1 s.2) sd_FU (a0, a1))
set_option maxHeartbeats 4000000 in
theorem sX5_isBoth (l : Launch) (G : sd_G) (d : Nat) (R : TMP) (HR : HMP l G d R) (a0 : Nat) (a1 : Nat) (h : sd_H) (ρ : Int32) (cT : Nat × Nat) (h2 : sd_H) (hf : fX5_isBoth G R a0 a1 h = some (ρ, cT, h2)) : sd_Met mX5_isBoth ((l, G), (d + 1 + 8, 45 * (d + 1) + 300), [.ref a0, .ref a1], (sd_oI ρ, h2), cT) h := by
  refine sd_entry (plainFor_of_name rfl) rfl (Nat.le_of_ble_eq_true rfl) ?_
  show sd_J mX5_isBoth ((l, G), (d + 1 + 8, 45 * (d + 1) + 300), [.ref a0, .ref a1], (sd_oI ρ, h2), cT) 0 [(0, .ref a0), (1, .ref a1)] [] h cT
  unfold fX5_isBoth at hf
  refine sj_aload_n 0 dX5_isBoth_0 rfl ?_
  refine sj_aload_n 1 dX5_isBoth_1 rfl ?_
  obtain ⟨fs2, he2, hf⟩ := sd_isC_some hf
  refine sj_cI (rest := []) (fun _ _ _ e => sj_runV (n := 1) (As := [.ref a1]) (rest := []) (HR.2.2.1 a0 a1 h _ _ _ e) he2 rfl rfl rfl rfl q3006 q3008 qs58 q127 q3009 (by decide +kernel) rfl rfl ⟨by show d + 8 + 1 ≤ d + 1 + 8; omega, by show 8 + (3 + 11) + (45 * d + 300) ≤ 45 * (d + 1) + 300; omega⟩ rfl (Nat.le_of_ble_eq_true rfl) dX5_isBoth_2) hf (fun r1 h c hf => ?_)
  refine sj_ifne 10 hf dX5_isBoth_5 (by decide) (fun g5 hf => ?_) (fun g5 hf => ?_)
  · exact sj_loc [0, 1] rfl (sX5_isBoth_b10_loop l G d R HR a0 a1 ρ h2 cT sd_FU (a0, a1) _ _ hf)
  · refine sj_iconst (v := 0) dX5_isBoth_8 (by decide) ?_
    exact sj_zretC (o := sd_oI) (ty := .boolean) rfl hf rfl rfl rfl dX5_isBoth_9
/-! SofaDigModel.isSingle(LSofaDigModel$Plan;)Z -/
def fX5_isSingle (G : sd_G) (R : TMP) (a0 : Nat) (a1 : Nat) : sd_M Int32 :=
  sd_bnd (sd_getR G 4 5 a0) fun v1 =>
  sd_bnd (sd_getI G 4 10 a0) fun v2 =>
  sd_bnd (sd_aldI G 0 v1 v2) fun v3 =>
  if v3 = 24 then (
    sd_bnd (sd_isC G 4 a0) fun _ =>
    sd_bnd (fX5_deeper G a0 24) fun r10 =>
    if r10 = 0 then (
      sd_ret 0)
    else (
      sd_bnd (sd_isC G 4 a0) fun _ =>
      sd_bnd (R.2.2.1 a0 a1) fun r11 =>
      if r11 = 0 then (
        sd_ret 0)
      else (
        sd_bnd (sd_getI G 4 11 a0) fun v12 =>
        sd_bnd (sd_put 4 11 .int a0 (.int (v12 - 1))) fun _ =>
        sd_bnd (sd_isC G 4 a0) fun _ =>
        sd_bnd (fX5_put G a0 a1 24 0) fun _ =>
        sd_ret 1)))
  else (
    if v3 = 91 then (
      sd_bnd (sd_isC G 4 a0) fun _ =>
      sd_bnd (fX5_deeper G a0 91) fun r7 =>
      if r7 = 0 then (
        sd_ret 0)
      else (
        sd_bnd (sd_isC G 4 a0) fun _ =>
        sd_bnd (R.1 a0 a1) fun r8 =>
        if r8 = 0 then (
          sd_ret 0)
        else (
          sd_bnd (sd_isC G 4 a0) fun _ =>
          sd_bnd (fX5_closes G a0 93) fun r9 =>
          if r9 = 0 then (
            sd_ret 0)
          else (
            sd_ret 1))))
    else (
      if v3 = 22 then (
        sd_bnd (sd_isC G 4 a0) fun _ =>
        sd_bnd (fX5_isAbout G a0 a1 v3) fun r6 =>
        sd_retN .boolean r6)
      else (
        if v3 = 23 then (
          sd_bnd (sd_isC G 4 a0) fun _ =>
          sd_bnd (R.2.2.2.2.2.2.2.1 a0 a1 v3) fun r5 =>
          sd_retN .boolean r5)
        else (
          sd_bnd (sd_isC G 4 a0) fun _ =>
          sd_bnd (R.2.2.2.1 a0 a1) fun r4 =>
          sd_retN .boolean r4))))
set_option maxHeartbeats 4000000 in
theorem sX5_isSingle (l : Launch) (G : sd_G) (d : Nat) (R : TMP) (HR : HMP l G d R) (a0 : Nat) (a1 : Nat) (h : sd_H) (ρ : Int32) (cT : Nat × Nat) (h2 : sd_H) (hf : fX5_isSingle G R a0 a1 h = some (ρ, cT, h2)) : sd_Met mX5_isSingle ((l, G), (d + 1 + 8, 45 * (d + 1) + 300), [.ref a0, .ref a1], (sd_oI ρ, h2), cT) h := by
  refine sd_entry (plainFor_of_name rfl) rfl (Nat.le_of_ble_eq_true rfl) ?_
  show sd_J mX5_isSingle ((l, G), (d + 1 + 8, 45 * (d + 1) + 300), [.ref a0, .ref a1], (sd_oI ρ, h2), cT) 0 [(0, .ref a0), (1, .ref a1)] [] h cT
  unfold fX5_isSingle at hf
  refine sj_aload_n 0 dX5_isSingle_0 rfl ?_
  refine sj_getR fdX5_24_4 hf dX5_isSingle_1 (fun v1 hf => ?_)
  refine sj_aload_n 0 dX5_isSingle_4 rfl ?_
  refine sj_getI fdX5_256_4 hf dX5_isSingle_5 (fun v2 hf => ?_)
  refine sj_iald hf dX5_isSingle_8 (fun v3 hf => ?_)
  refine sj_istore_n [(2, .int v3), (0, .ref a0), (1, .ref a1)] dX5_isSingle_9 (by decide) rfl ?_
  refine sj_iload_n 0 dX5_isSingle_10 rfl ?_
  refine sj_bipush (v := 24) dX5_isSingle_11 (by decide) ?_
  refine sj_icne 55 hf dX5_isSingle_13 (by decide) (fun g13 hf => ?_) (fun g13 hf => ?_)
  · refine sj_iload_n 0 dX5_isSingle_55 rfl ?_
    refine sj_bipush (v := 91) dX5_isSingle_56 (by decide) ?_
    refine sj_icne 93 hf dX5_isSingle_58 (by decide) (fun g58 hf => ?_) (fun g58 hf => ?_)
    · refine sj_iload_n 0 dX5_isSingle_93 rfl ?_
      refine sj_bipush (v := 22) dX5_isSingle_94 (by decide) ?_
      refine sj_icne 108 hf dX5_isSingle_96 (by decide) (fun g96 hf => ?_) (fun g96 hf => ?_)
      · refine sj_iload_n 0 dX5_isSingle_108 rfl ?_
        refine sj_bipush (v := 23) dX5_isSingle_109 (by decide) ?_
        refine sj_icne 123 hf dX5_isSingle_111 (by decide) (fun g111 hf => ?_) (fun g111 hf => ?_)
        · refine sj_aload_n 1 dX5_isSingle_123 rfl ?_
          refine sj_aload_n 2 dX5_isSingle_124 rfl ?_
          obtain ⟨fs125, he125, hf⟩ := sd_isC_some hf
          refine sj_cI (rest := []) (fun _ _ _ e => sj_runV (n := 1) (As := [.ref a1]) (rest := []) (HR.2.2.2.1 a0 a1 h _ _ _ e) he125 rfl rfl rfl rfl q3046 q3048 qs68 q127 q3049 (by decide +kernel) rfl rfl ⟨by show d + 8 + 1 ≤ d + 1 + 8; omega, by show 8 + (4 + 11) + (45 * d + 300) ≤ 45 * (d + 1) + 300; omega⟩ rfl (Nat.le_of_ble_eq_true rfl) dX5_isSingle_125) hf (fun r4 h c hf => ?_)
          exact sj_zret hf rfl rfl dX5_isSingle_128
        · refine sj_aload_n 1 dX5_isSingle_114 rfl ?_
          refine sj_aload_n 2 dX5_isSingle_115 rfl ?_
          refine sj_iload_n 0 dX5_isSingle_116 rfl ?_
          obtain ⟨fs117, he117, hf⟩ := sd_isC_some hf
          refine sj_cI (rest := []) (fun _ _ _ e => sj_runV (n := 2) (As := [.ref a1, .int v3]) (rest := []) (HR.2.2.2.2.2.2.2.1 a0 a1 v3 h _ _ _ e) he117 rfl rfl rfl rfl q3026 q3028 qs63 q127 q3029 (by decide +kernel) rfl rfl ⟨by show d + 8 + 1 ≤ d + 1 + 8; omega, by show 8 + (3 + 11) + (45 * d + 300) ≤ 45 * (d + 1) + 300; omega⟩ rfl (Nat.le_of_ble_eq_true rfl) dX5_isSingle_117) hf (fun r5 h c hf => ?_)
          refine sj_goto 128 dX5_isSingle_120 (by decide) ?_
          exact sj_zret hf rfl rfl dX5_isSingle_128
      · refine sj_aload_n 1 dX5_isSingle_99 rfl ?_
        refine sj_aload_n 2 dX5_isSingle_100 rfl ?_
        refine sj_iload_n 0 dX5_isSingle_101 rfl ?_
        obtain ⟨fs102, he102, hf⟩ := sd_isC_some hf
        refine sj_cI (rest := []) (fun _ _ _ e => sj_runV (n := 2) (As := [.ref a1, .int v3]) (rest := []) (sX5_isAbout l G a0 a1 v3 h _ _ _ e) he102 rfl rfl rfl rfl q3022 q3024 qs62 q127 q3025 (by decide +kernel) rfl rfl ⟨by show 2 + 1 ≤ d + 1 + 8; omega, by show 8 + (3 + 11) + 43 ≤ 45 * (d + 1) + 300; omega⟩ rfl (Nat.le_of_ble_eq_true rfl) dX5_isSingle_102) hf (fun r6 h c hf => ?_)
        refine sj_goto 128 dX5_isSingle_105 (by decide) ?_
        exact sj_zret hf rfl rfl dX5_isSingle_128
    · refine sj_aload_n 1 dX5_isSingle_61 rfl ?_
      refine sj_bipush (v := 91) dX5_isSingle_62 (by decide) ?_
      obtain ⟨fs64, he64, hf⟩ := sd_isC_some hf
      refine sj_cI (rest := []) (fun _ _ _ e => sj_runV (n := 1) (As := [.int 91]) (rest := []) (sX5_deeper l G a0 91 h _ _ _ e) he64 rfl rfl rfl rfl q3010 q3012 qs59 q127 q3013 (by decide +kernel) rfl rfl ⟨by show 1 + 1 ≤ d + 1 + 8; omega, by show 8 + (2 + 11) + 21 ≤ 45 * (d + 1) + 300; omega⟩ rfl (Nat.le_of_ble_eq_true rfl) dX5_isSingle_64) hf (fun r7 h c hf => ?_)
      refine sj_ifeq 91 hf dX5_isSingle_67 (by decide) (fun g67 hf => ?_) (fun g67 hf => ?_)
      · refine sj_iconst (v := 0) dX5_isSingle_91 (by decide) ?_
        exact sj_zretC (o := sd_oI) (ty := .boolean) rfl hf rfl rfl rfl dX5_isSingle_92
      · refine sj_aload_n 1 dX5_isSingle_70 rfl ?_
        refine sj_aload_n 2 dX5_isSingle_71 rfl ?_
        obtain ⟨fs72, he72, hf⟩ := sd_isC_some hf
        refine sj_cI (rest := []) (fun _ _ _ e => sj_runV (n := 1) (As := [.ref a1]) (rest := []) (HR.1 a0 a1 h _ _ _ e) he72 rfl rfl rfl rfl q2998 q3000 qs56 q127 q3001 (by decide +kernel) rfl rfl ⟨by show d + 8 + 1 ≤ d + 1 + 8; omega, by show 8 + (2 + 11) + (45 * d + 300) ≤ 45 * (d + 1) + 300; omega⟩ rfl (Nat.le_of_ble_eq_true rfl) dX5_isSingle_72) hf (fun r8 h c hf => ?_)
        refine sj_ifeq 91 hf dX5_isSingle_75 (by decide) (fun g75 hf => ?_) (fun g75 hf => ?_)
        · refine sj_iconst (v := 0) dX5_isSingle_91 (by decide) ?_
          exact sj_zretC (o := sd_oI) (ty := .boolean) rfl hf rfl rfl rfl dX5_isSingle_92
        · refine sj_aload_n 1 dX5_isSingle_78 rfl ?_
          refine sj_bipush (v := 93) dX5_isSingle_79 (by decide) ?_
          obtain ⟨fs81, he81, hf⟩ := sd_isC_some hf
          refine sj_cI (rest := []) (fun _ _ _ e => sj_runV (n := 1) (As := [.int 93]) (rest := []) (sX5_closes l G a0 93 h _ _ _ e) he81 rfl rfl rfl rfl q3018 q3020 qs61 q127 q3021 (by decide +kernel) rfl rfl ⟨by show 1 + 1 ≤ d + 1 + 8; omega, by show 8 + (2 + 11) + 21 ≤ 45 * (d + 1) + 300; omega⟩ rfl (Nat.le_of_ble_eq_true rfl) dX5_isSingle_81) hf (fun r9 h c hf => ?_)
          refine sj_ifeq 91 hf dX5_isSingle_84 (by decide) (fun g84 hf => ?_) (fun g84 hf => ?_)
          · refine sj_iconst (v := 0) dX5_isSingle_91 (by decide) ?_
            exact sj_zretC (o := sd_oI) (ty := .boolean) rfl hf rfl rfl rfl dX5_isSingle_92
          · refine sj_iconst (v := 1) dX5_isSingle_87 (by decide) ?_
            refine sj_goto 92 dX5_isSingle_88 (by decide) ?_
            exact sj_zretC (o := sd_oI) (ty := .boolean) rfl hf rfl rfl rfl dX5_isSingle_92
  · refine sj_aload_n 1 dX5_isSingle_16 rfl ?_
    refine sj_bipush (v := 24) dX5_isSingle_17 (by decide) ?_
    obtain ⟨fs19, he19, hf⟩ := sd_isC_some hf
    refine sj_cI (rest := []) (fun _ _ _ e => sj_runV (n := 1) (As := [.int 24]) (rest := []) (sX5_deeper l G a0 24 h _ _ _ e) he19 rfl rfl rfl rfl q3010 q3012 qs59 q127 q3013 (by decide +kernel) rfl rfl ⟨by show 1 + 1 ≤ d + 1 + 8; omega, by show 8 + (2 + 11) + 21 ≤ 45 * (d + 1) + 300; omega⟩ rfl (Nat.le_of_ble_eq_true rfl) dX5_isSingle_19) hf (fun r10 h c hf => ?_)
    refine sj_ifeq 33 hf dX5_isSingle_22 (by decide) (fun g22 hf => ?_) (fun g22 hf => ?_)
    · refine sj_iconst (v := 0) dX5_isSingle_33 (by decide) ?_
      exact sj_zretC (o := sd_oI) (ty := .boolean) rfl hf rfl rfl rfl dX5_isSingle_34
    · refine sj_aload_n 1 dX5_isSingle_25 rfl ?_
      refine sj_aload_n 2 dX5_isSingle_26 rfl ?_
      obtain ⟨fs27, he27, hf⟩ := sd_isC_some hf
      refine sj_cI (rest := []) (fun _ _ _ e => sj_runV (n := 1) (As := [.ref a1]) (rest := []) (HR.2.2.1 a0 a1 h _ _ _ e) he27 rfl rfl rfl rfl q3006 q3008 qs58 q127 q3009 (by decide +kernel) rfl rfl ⟨by show d + 8 + 1 ≤ d + 1 + 8; omega, by show 8 + (3 + 11) + (45 * d + 300) ≤ 45 * (d + 1) + 300; omega⟩ rfl (Nat.le_of_ble_eq_true rfl) dX5_isSingle_27) hf (fun r11 h c hf => ?_)
      refine sj_ifne 35 hf dX5_isSingle_30 (by decide) (fun g30 hf => ?_) (fun g30 hf => ?_)
      · refine sj_aload_n 1 dX5_isSingle_35 rfl ?_
        refine sj_dup dX5_isSingle_36 rfl ?_
        refine sj_getI fdX5_262_4 hf dX5_isSingle_37 (fun v12 hf => ?_)
        refine sj_iconst (v := 1) dX5_isSingle_40 (by decide) ?_
        refine sj_isub dX5_isSingle_41 ?_
        refine sj_put (fpX5_262_4 _ _) hf dX5_isSingle_42 (fun h hf => ?_)
        refine sj_aload_n 1 dX5_isSingle_45 rfl ?_
        refine sj_aload_n 2 dX5_isSingle_46 rfl ?_
        refine sj_bipush (v := 24) dX5_isSingle_47 (by decide) ?_
        refine sj_iconst (v := 0) dX5_isSingle_49 (by decide) ?_
        obtain ⟨fs50, he50, hf⟩ := sd_isC_some hf
        refine sj_cV (rest := []) (fun _ _ _ e => sj_runV (n := 3) (As := [.ref a1, .int 24, .int 0]) (rest := []) (sX5_put l G a0 a1 24 0 h _ _ _ e) he50 rfl rfl rfl rfl q3014 q3016 qs60 q127 q3017 (by decide +kernel) rfl rfl ⟨by show 0 + 1 ≤ d + 1 + 8; omega, by show 8 + (4 + 11) + 0 ≤ 45 * (d + 1) + 300; omega⟩ rfl (Nat.le_of_ble_eq_true rfl) dX5_isSingle_50) hf (fun h c hf => ?_)
        refine sj_iconst (v := 1) dX5_isSingle_53 (by decide) ?_
        exact sj_zretC (o := sd_oI) (ty := .boolean) rfl hf rfl rfl rfl dX5_isSingle_54
      · refine sj_iconst (v := 0) dX5_isSingle_33 (by decide) ?_
        exact sj_zretC (o := sd_oI) (ty := .boolean) rfl hf rfl rfl rfl dX5_isSingle_34
/-! SofaDigModel.isCompare(LSofaDigModel$Plan;)Z -/
def fX5_isCompare_b78 (G : sd_G) (R : TMP) (w0 : Nat) (w1 : Nat) (y0 : Int32) : sd_M Int32 :=
  if y0 = (-1) then (
    sd_ret 0)
  else (
    sd_bnd (sd_getI G 4 10 w0) fun v5 =>
    sd_bnd (sd_put 4 10 .int w0 (.int (v5 + 1))) fun _ =>
    sd_bnd (sd_isC G 4 w0) fun _ =>
    sd_bnd (R.2.2.2.2.1 w0 w1) fun r6 =>
    if r6 = 0 then (
      sd_ret 0)
    else (
      sd_bnd (sd_isC G 4 w0) fun _ =>
      sd_bnd (fX5_put G w0 w1 y0 0) fun _ =>
      sd_ret 1))
set_option maxHeartbeats 4000000 in
theorem sX5_isCompare_b78 (l : Launch) (G : sd_G) (d : Nat) (R : TMP) (HR : HMP l G d R) (a0 : Nat) (a1 : Nat) (ρ : Int32) (h2 : sd_H) (cT : Nat × Nat) (w0 : Nat) (w1 : Nat) (y0 : Int32) (h : sd_H) (c : Nat × Nat) (hf : fX5_isCompare_b78 G R w0 w1 y0 h = some (ρ, c, h2)) : sd_J mX5_isCompare ((l, G), (d + 1 + 8, 45 * (d + 1) + 300), [.ref a0, .ref a1], (sd_oI ρ, h2), cT) 78 [(0, .ref w0), (1, .ref w1)] [.int y0] h c := by
  unfold fX5_isCompare_b78 at hf
  refine sj_istore_n [(3, .int y0), (0, .ref w0), (1, .ref w1)] dX5_isCompare_78 (by decide) rfl ?_
  refine sj_iload_n 0 dX5_isCompare_79 rfl ?_
  refine sj_iconst (v := (-1)) dX5_isCompare_80 (by decide) ?_
  refine sj_icne 86 hf dX5_isCompare_81 (by decide) (fun g81 hf => ?_) (fun g81 hf => ?_)
  · refine sj_aload_n 1 dX5_isCompare_86 rfl ?_
    refine sj_dup dX5_isCompare_87 rfl ?_
    refine sj_getI fdX5_256_4 hf dX5_isCompare_88 (fun v5 hf => ?_)
    refine sj_iconst (v := 1) dX5_isCompare_91 (by decide) ?_
    refine sj_iadd dX5_isCompare_92 ?_
    refine sj_put (fpX5_256_4 _ _) hf dX5_isCompare_93 (fun h hf => ?_)
    refine sj_aload_n 1 dX5_isCompare_96 rfl ?_
    refine sj_aload_n 2 dX5_isCompare_97 rfl ?_
    obtain ⟨fs98, he98, hf⟩ := sd_isC_some hf
    refine sj_cI (rest := []) (fun _ _ _ e => sj_runV (n := 1) (As := [.ref w1]) (rest := []) (HR.2.2.2.2.1 w0 w1 h _ _ _ e) he98 rfl rfl rfl rfl q3030 q3032 qs64 q127 q3033 (by decide +kernel) rfl rfl ⟨by show d + 8 + 1 ≤ d + 1 + 8; omega, by show 8 + (3 + 11) + (45 * d + 300) ≤ 45 * (d + 1) + 300; omega⟩ rfl (Nat.le_of_ble_eq_true rfl) dX5_isCompare_98) hf (fun r6 h c hf => ?_)
    refine sj_ifne 106 hf dX5_isCompare_101 (by decide) (fun g101 hf => ?_) (fun g101 hf => ?_)
    · refine sj_aload_n 1 dX5_isCompare_106 rfl ?_
      refine sj_aload_n 2 dX5_isCompare_107 rfl ?_
      refine sj_iload_n 0 dX5_isCompare_108 rfl ?_
      refine sj_iconst (v := 0) dX5_isCompare_109 (by decide) ?_
      obtain ⟨fs110, he110, hf⟩ := sd_isC_some hf
      refine sj_cV (rest := []) (fun _ _ _ e => sj_runV (n := 3) (As := [.ref w1, .int y0, .int 0]) (rest := []) (sX5_put l G w0 w1 y0 0 h _ _ _ e) he110 rfl rfl rfl rfl q3014 q3016 qs60 q127 q3017 (by decide +kernel) rfl rfl ⟨by show 0 + 1 ≤ d + 1 + 8; omega, by show 8 + (4 + 11) + 0 ≤ 45 * (d + 1) + 300; omega⟩ rfl (Nat.le_of_ble_eq_true rfl) dX5_isCompare_110) hf (fun h c hf => ?_)
      refine sj_iconst (v := 1) dX5_isCompare_113 (by decide) ?_
      exact sj_zretC (o := sd_oI) (ty := .boolean) rfl hf rfl rfl rfl dX5_isCompare_114
    · refine sj_iconst (v := 0) dX5_isCompare_104 (by decide) ?_
      exact sj_zretC (o := sd_oI) (ty := .boolean) rfl hf rfl rfl rfl dX5_isCompare_105
  · refine sj_iconst (v := 0) dX5_isCompare_84 (by decide) ?_
    exact sj_zretC (o := sd_oI) (ty := .boolean) rfl hf rfl rfl rfl dX5_isCompare_85
def fX5_isCompare (G : sd_G) (R : TMP) (a0 : Nat) (a1 : Nat) : sd_M Int32 :=
  sd_bnd (sd_isC G 4 a0) fun _ =>
  sd_bnd (R.2.2.2.2.1 a0 a1) fun r1 =>
  if r1 = 0 then (
    sd_ret 0)
  else (
    sd_bnd (sd_getR G 4 5 a0) fun v2 =>
    sd_bnd (sd_getI G 4 10 a0) fun v3 =>
    sd_bnd (sd_aldI G 0 v2 v3) fun v4 =>
    if v4 = 60 then (
      fX5_isCompare_b78 G R a0 a1 106)
    else (
      if v4 = 62 then (
        fX5_isCompare_b78 G R a0 a1 107)
      else (
        if v4 = 61 then (
          fX5_isCompare_b78 G R a0 a1 108)
        else (
          if v4 = 316 then (
            fX5_isCompare_b78 G R a0 a1 109)
          else (
            if v4 = 318 then (
              fX5_isCompare_b78 G R a0 a1 110)
            else (
              fX5_isCompare_b78 G R a0 a1 (-1)))))))
set_option maxHeartbeats 4000000 in
theorem sX5_isCompare (l : Launch) (G : sd_G) (d : Nat) (R : TMP) (HR : HMP l G d R) (a0 : Nat) (a1 : Nat) (h : sd_H) (ρ : Int32) (cT : Nat × Nat) (h2 : sd_H) (hf : fX5_isCompare G R a0 a1 h = some (ρ, cT, h2)) : sd_Met mX5_isCompare ((l, G), (d + 1 + 8, 45 * (d + 1) + 300), [.ref a0, .ref a1], (sd_oI ρ, h2), cT) h := by
  refine sd_entry (plainFor_of_name rfl) rfl (Nat.le_of_ble_eq_true rfl) ?_
  show sd_J mX5_isCompare ((l, G), (d + 1 + 8, 45 * (d + 1) + 300), [.ref a0, .ref a1], (sd_oI ρ, h2), cT) 0 [(0, .ref a0), (1, .ref a1)] [] h cT
  unfold fX5_isCompare at hf
  refine sj_aload_n 0 dX5_isCompare_0 rfl ?_
  refine sj_aload_n 1 dX5_isCompare_1 rfl ?_
  obtain ⟨fs2, he2, hf⟩ := sd_isC_some hf
  refine sj_cI (rest := []) (fun _ _ _ e => sj_runV (n := 1) (As := [.ref a1]) (rest := []) (HR.2.2.2.2.1 a0 a1 h _ _ _ e) he2 rfl rfl rfl rfl q3030 q3032 qs64 q127 q3033 (by decide +kernel) rfl rfl ⟨by show d + 8 + 1 ≤ d + 1 + 8; omega, by show 8 + (3 + 11) + (45 * d + 300) ≤ 45 * (d + 1) + 300; omega⟩ rfl (Nat.le_of_ble_eq_true rfl) dX5_isCompare_2) hf (fun r1 h c hf => ?_)
  refine sj_ifne 10 hf dX5_isCompare_5 (by decide) (fun g5 hf => ?_) (fun g5 hf => ?_)
  · refine sj_aload_n 0 dX5_isCompare_10 rfl ?_
    refine sj_getR fdX5_24_4 hf dX5_isCompare_11 (fun v2 hf => ?_)
    refine sj_aload_n 0 dX5_isCompare_14 rfl ?_
    refine sj_getI fdX5_256_4 hf dX5_isCompare_15 (fun v3 hf => ?_)
    refine sj_iald hf dX5_isCompare_18 (fun v4 hf => ?_)
    refine sj_istore_n [(2, .int v4), (0, .ref a0), (1, .ref a1)] dX5_isCompare_19 (by decide) rfl ?_
    refine sj_iload_n 0 dX5_isCompare_20 rfl ?_
    refine sj_bipush (v := 60) dX5_isCompare_21 (by decide) ?_
    refine sj_icne 31 hf dX5_isCompare_23 (by decide) (fun g23 hf => ?_) (fun g23 hf => ?_)
    · refine sj_iload_n 0 dX5_isCompare_31 rfl ?_
      refine sj_bipush (v := 62) dX5_isCompare_32 (by decide) ?_
      refine sj_icne 42 hf dX5_isCompare_34 (by decide) (fun g34 hf => ?_) (fun g34 hf => ?_)
      · refine sj_iload_n 0 dX5_isCompare_42 rfl ?_
        refine sj_bipush (v := 61) dX5_isCompare_43 (by decide) ?_
        refine sj_icne 53 hf dX5_isCompare_45 (by decide) (fun g45 hf => ?_) (fun g45 hf => ?_)
        · refine sj_iload_n 0 dX5_isCompare_53 rfl ?_
          refine sj_sipush (v := 316) dX5_isCompare_54 (by decide) ?_
          refine sj_icne 65 hf dX5_isCompare_57 (by decide) (fun g57 hf => ?_) (fun g57 hf => ?_)
          · refine sj_iload_n 0 dX5_isCompare_65 rfl ?_
            refine sj_sipush (v := 318) dX5_isCompare_66 (by decide) ?_
            refine sj_icne 77 hf dX5_isCompare_69 (by decide) (fun g69 hf => ?_) (fun g69 hf => ?_)
            · refine sj_iconst (v := (-1)) dX5_isCompare_77 (by decide) ?_
              exact sj_loc [1, 2] rfl (sX5_isCompare_b78 l G d R HR a0 a1 ρ h2 cT a0 a1 (-1) _ _ hf)
            · refine sj_bipush (v := 110) dX5_isCompare_72 (by decide) ?_
              refine sj_goto 78 dX5_isCompare_74 (by decide) ?_
              exact sj_loc [1, 2] rfl (sX5_isCompare_b78 l G d R HR a0 a1 ρ h2 cT a0 a1 110 _ _ hf)
          · refine sj_bipush (v := 109) dX5_isCompare_60 (by decide) ?_
            refine sj_goto 78 dX5_isCompare_62 (by decide) ?_
            exact sj_loc [1, 2] rfl (sX5_isCompare_b78 l G d R HR a0 a1 ρ h2 cT a0 a1 109 _ _ hf)
        · refine sj_bipush (v := 108) dX5_isCompare_48 (by decide) ?_
          refine sj_goto 78 dX5_isCompare_50 (by decide) ?_
          exact sj_loc [1, 2] rfl (sX5_isCompare_b78 l G d R HR a0 a1 ρ h2 cT a0 a1 108 _ _ hf)
      · refine sj_bipush (v := 107) dX5_isCompare_37 (by decide) ?_
        refine sj_goto 78 dX5_isCompare_39 (by decide) ?_
        exact sj_loc [1, 2] rfl (sX5_isCompare_b78 l G d R HR a0 a1 ρ h2 cT a0 a1 107 _ _ hf)
    · refine sj_bipush (v := 106) dX5_isCompare_26 (by decide) ?_
      refine sj_goto 78 dX5_isCompare_28 (by decide) ?_
      exact sj_loc [1, 2] rfl (sX5_isCompare_b78 l G d R HR a0 a1 ρ h2 cT a0 a1 106 _ _ hf)
  · refine sj_iconst (v := 0) dX5_isCompare_8 (by decide) ?_
    exact sj_zretC (o := sd_oI) (ty := .boolean) rfl hf rfl rfl rfl dX5_isCompare_9
/-! SofaDigModel.isSum(LSofaDigModel$Plan;)Z -/
def fX5_isSum_b59 (G : sd_G) (R : TMP) (k10 : Nat × Nat → sd_M Int32) (w0 : Nat) (w1 : Nat) (y0 : Int32) : sd_M Int32 :=
  sd_bnd (sd_getI G 4 10 w0) fun v8 =>
  sd_bnd (sd_put 4 10 .int w0 (.int (v8 + 1))) fun _ =>
  sd_bnd (sd_isC G 4 w0) fun _ =>
  sd_bnd (R.2.2.2.2.2.1 w0 w1) fun r9 =>
  if r9 = 0 then (
    sd_ret 0)
  else (
    sd_bnd (sd_isC G 4 w0) fun _ =>
    sd_bnd (fX5_put G w0 w1 y0 0) fun _ =>
    k10 (w0, w1))
set_option maxHeartbeats 4000000 in
theorem sX5_isSum_b59 (l : Launch) (G : sd_G) (d : Nat) (R : TMP) (HR : HMP l G d R) (a0 : Nat) (a1 : Nat) (ρ : Int32) (h2 : sd_H) (cT : Nat × Nat) (k10 : Nat × Nat → sd_M Int32) (Hk10 : ∀ (q : Nat × Nat) (h : sd_H) (c : Nat × Nat), k10 q h = some (ρ, c, h2) → sd_J mX5_isSum ((l, G), (d + 1 + 8, 45 * (d + 1) + 300), [.ref a0, .ref a1], (sd_oI ρ, h2), cT) 10 [(0, .ref q.1), (1, .ref q.2)] [] h c) (w0 : Nat) (w1 : Nat) (y0 : Int32) (h : sd_H) (c : Nat × Nat) (hf : fX5_isSum_b59 G R k10 w0 w1 y0 h = some (ρ, c, h2)) : sd_J mX5_isSum ((l, G), (d + 1 + 8, 45 * (d + 1) + 300), [.ref a0, .ref a1], (sd_oI ρ, h2), cT) 59 [(0, .ref w0), (1, .ref w1)] [.int y0] h c := by
  unfold fX5_isSum_b59 at hf
  refine sj_istore_n [(2, .int y0), (0, .ref w0), (1, .ref w1)] dX5_isSum_59 (by decide) rfl ?_
  refine sj_aload_n 1 dX5_isSum_60 rfl ?_
  refine sj_dup dX5_isSum_61 rfl ?_
  refine sj_getI fdX5_256_4 hf dX5_isSum_62 (fun v8 hf => ?_)
  refine sj_iconst (v := 1) dX5_isSum_65 (by decide) ?_
  refine sj_iadd dX5_isSum_66 ?_
  refine sj_put (fpX5_256_4 _ _) hf dX5_isSum_67 (fun h hf => ?_)
  refine sj_aload_n 1 dX5_isSum_70 rfl ?_
  refine sj_aload_n 2 dX5_isSum_71 rfl ?_
  obtain ⟨fs72, he72, hf⟩ := sd_isC_some hf
  refine sj_cI (rest := []) (fun _ _ _ e => sj_runV (n := 1) (As := [.ref w1]) (rest := []) (HR.2.2.2.2.2.1 w0 w1 h _ _ _ e) he72 rfl rfl rfl rfl q3034 q3036 qs65 q127 q3037 (by decide +kernel) rfl rfl ⟨by show d + 8 + 1 ≤ d + 1 + 8; omega, by show 8 + (3 + 11) + (45 * d + 300) ≤ 45 * (d + 1) + 300; omega⟩ rfl (Nat.le_of_ble_eq_true rfl) dX5_isSum_72) hf (fun r9 h c hf => ?_)
  refine sj_ifne 80 hf dX5_isSum_75 (by decide) (fun g75 hf => ?_) (fun g75 hf => ?_)
  · refine sj_aload_n 1 dX5_isSum_80 rfl ?_
    refine sj_aload_n 2 dX5_isSum_81 rfl ?_
    refine sj_iload_n 0 dX5_isSum_82 rfl ?_
    refine sj_iconst (v := 0) dX5_isSum_83 (by decide) ?_
    obtain ⟨fs84, he84, hf⟩ := sd_isC_some hf
    refine sj_cV (rest := []) (fun _ _ _ e => sj_runV (n := 3) (As := [.ref w1, .int y0, .int 0]) (rest := []) (sX5_put l G w0 w1 y0 0 h _ _ _ e) he84 rfl rfl rfl rfl q3014 q3016 qs60 q127 q3017 (by decide +kernel) rfl rfl ⟨by show 0 + 1 ≤ d + 1 + 8; omega, by show 8 + (4 + 11) + 0 ≤ 45 * (d + 1) + 300; omega⟩ rfl (Nat.le_of_ble_eq_true rfl) dX5_isSum_84) hf (fun h c hf => ?_)
    refine sj_goto 10 dX5_isSum_87 (by decide) ?_
    exact sj_loc [1, 2] rfl (Hk10 (w0, w1) _ _ hf)
  · refine sj_iconst (v := 0) dX5_isSum_78 (by decide) ?_
    exact sj_zretC (o := sd_oI) (ty := .boolean) rfl hf rfl rfl rfl dX5_isSum_79
def fX5_isSum_b38 (G : sd_G) (R : TMP) (k10 : Nat × Nat → sd_M Int32) (w0 : Nat) (w1 : Nat) : sd_M Int32 :=
  sd_bnd (sd_getR G 4 5 w0) fun v5 =>
  sd_bnd (sd_getI G 4 10 w0) fun v6 =>
  sd_bnd (sd_aldI G 0 v5 v6) fun v7 =>
  if v7 = 43 then (
    fX5_isSum_b59 G R k10 w0 w1 101)
  else (
    fX5_isSum_b59 G R k10 w0 w1 102)
set_option maxHeartbeats 4000000 in
theorem sX5_isSum_b38 (l : Launch) (G : sd_G) (d : Nat) (R : TMP) (HR : HMP l G d R) (a0 : Nat) (a1 : Nat) (ρ : Int32) (h2 : sd_H) (cT : Nat × Nat) (k10 : Nat × Nat → sd_M Int32) (Hk10 : ∀ (q : Nat × Nat) (h : sd_H) (c : Nat × Nat), k10 q h = some (ρ, c, h2) → sd_J mX5_isSum ((l, G), (d + 1 + 8, 45 * (d + 1) + 300), [.ref a0, .ref a1], (sd_oI ρ, h2), cT) 10 [(0, .ref q.1), (1, .ref q.2)] [] h c) (w0 : Nat) (w1 : Nat) (h : sd_H) (c : Nat × Nat) (hf : fX5_isSum_b38 G R k10 w0 w1 h = some (ρ, c, h2)) : sd_J mX5_isSum ((l, G), (d + 1 + 8, 45 * (d + 1) + 300), [.ref a0, .ref a1], (sd_oI ρ, h2), cT) 38 [(0, .ref w0), (1, .ref w1)] [] h c := by
  unfold fX5_isSum_b38 at hf
  refine sj_aload_n 0 dX5_isSum_38 rfl ?_
  refine sj_getR fdX5_24_4 hf dX5_isSum_39 (fun v5 hf => ?_)
  refine sj_aload_n 0 dX5_isSum_42 rfl ?_
  refine sj_getI fdX5_256_4 hf dX5_isSum_43 (fun v6 hf => ?_)
  refine sj_iald hf dX5_isSum_46 (fun v7 hf => ?_)
  refine sj_bipush (v := 43) dX5_isSum_47 (by decide) ?_
  refine sj_icne 57 hf dX5_isSum_49 (by decide) (fun g49 hf => ?_) (fun g49 hf => ?_)
  · refine sj_bipush (v := 102) dX5_isSum_57 (by decide) ?_
    exact sj_loc [0, 1] rfl (sX5_isSum_b59 l G d R HR a0 a1 ρ h2 cT k10 Hk10 w0 w1 102 _ _ hf)
  · refine sj_bipush (v := 101) dX5_isSum_52 (by decide) ?_
    refine sj_goto 59 dX5_isSum_54 (by decide) ?_
    exact sj_loc [0, 1] rfl (sX5_isSum_b59 l G d R HR a0 a1 ρ h2 cT k10 Hk10 w0 w1 101 _ _ hf)
def fX5_isSum_b10 (G : sd_G) (R : TMP) (k10 : Nat × Nat → sd_M Int32) (w0 : Nat) (w1 : Nat) : sd_M Int32 :=
  sd_bnd (sd_getR G 4 5 w0) fun v2 =>
  sd_bnd (sd_getI G 4 10 w0) fun v3 =>
  sd_bnd (sd_aldI G 0 v2 v3) fun v4 =>
  if v4 = 43 then (
    fX5_isSum_b38 G R k10 w0 w1)
  else (
    sd_bnd (sd_getR G 4 5 w0) fun v10 =>
    sd_bnd (sd_getI G 4 10 w0) fun v11 =>
    sd_bnd (sd_aldI G 0 v10 v11) fun v12 =>
    if v12 = 45 then (
      fX5_isSum_b38 G R k10 w0 w1)
    else (
      sd_ret 1))
set_option maxHeartbeats 4000000 in
theorem sX5_isSum_b10 (l : Launch) (G : sd_G) (d : Nat) (R : TMP) (HR : HMP l G d R) (a0 : Nat) (a1 : Nat) (ρ : Int32) (h2 : sd_H) (cT : Nat × Nat) (k10 : Nat × Nat → sd_M Int32) (Hk10 : ∀ (q : Nat × Nat) (h : sd_H) (c : Nat × Nat), k10 q h = some (ρ, c, h2) → sd_J mX5_isSum ((l, G), (d + 1 + 8, 45 * (d + 1) + 300), [.ref a0, .ref a1], (sd_oI ρ, h2), cT) 10 [(0, .ref q.1), (1, .ref q.2)] [] h c) (w0 : Nat) (w1 : Nat) (h : sd_H) (c : Nat × Nat) (hf : fX5_isSum_b10 G R k10 w0 w1 h = some (ρ, c, h2)) : sd_J mX5_isSum ((l, G), (d + 1 + 8, 45 * (d + 1) + 300), [.ref a0, .ref a1], (sd_oI ρ, h2), cT) 10 [(0, .ref w0), (1, .ref w1)] [] h c := by
  unfold fX5_isSum_b10 at hf
  refine sj_aload_n 0 dX5_isSum_10 rfl ?_
  refine sj_getR fdX5_24_4 hf dX5_isSum_11 (fun v2 hf => ?_)
  refine sj_aload_n 0 dX5_isSum_14 rfl ?_
  refine sj_getI fdX5_256_4 hf dX5_isSum_15 (fun v3 hf => ?_)
  refine sj_iald hf dX5_isSum_18 (fun v4 hf => ?_)
  refine sj_bipush (v := 43) dX5_isSum_19 (by decide) ?_
  refine sj_iceq 38 hf dX5_isSum_21 (by decide) (fun g21 hf => ?_) (fun g21 hf => ?_)
  · exact sj_loc [0, 1] rfl (sX5_isSum_b38 l G d R HR a0 a1 ρ h2 cT k10 Hk10 w0 w1 _ _ hf)
  · refine sj_aload_n 0 dX5_isSum_24 rfl ?_
    refine sj_getR fdX5_24_4 hf dX5_isSum_25 (fun v10 hf => ?_)
    refine sj_aload_n 0 dX5_isSum_28 rfl ?_
    refine sj_getI fdX5_256_4 hf dX5_isSum_29 (fun v11 hf => ?_)
    refine sj_iald hf dX5_isSum_32 (fun v12 hf => ?_)
    refine sj_bipush (v := 45) dX5_isSum_33 (by decide) ?_
    refine sj_icne 90 hf dX5_isSum_35 (by decide) (fun g35 hf => ?_) (fun g35 hf => ?_)
    · refine sj_iconst (v := 1) dX5_isSum_90 (by decide) ?_
      exact sj_zretC (o := sd_oI) (ty := .boolean) rfl hf rfl rfl rfl dX5_isSum_91
    · exact sj_loc [0, 1] rfl (sX5_isSum_b38 l G d R HR a0 a1 ρ h2 cT k10 Hk10 w0 w1 _ _ hf)
theorem sX5_isSum_b10_loop (l : Launch) (G : sd_G) (d : Nat) (R : TMP) (HR : HMP l G d R) (a0 : Nat) (a1 : Nat) (ρ : Int32) (h2 : sd_H) (cT : Nat × Nat) (n : Nat) : ∀ (q : Nat × Nat) (h : sd_H) (c : Nat × Nat), sd_loop (fun k s => fX5_isSum_b10 G R k s.1 s.2) n q h = some (ρ, c, h2) → sd_J mX5_isSum ((l, G), (d + 1 + 8, 45 * (d + 1) + 300), [.ref a0, .ref a1], (sd_oI ρ, h2), cT) 10 [(0, .ref q.1), (1, .ref q.2)] [] h c := by
  induction n with
  | zero => intro q h c hf; cases hf
  | succ n ih => intro q h c hf; exact sX5_isSum_b10 l G d R HR a0 a1 ρ h2 cT _ ih _ _ _ _ hf
def fX5_isSum (G : sd_G) (R : TMP) (a0 : Nat) (a1 : Nat) : sd_M Int32 :=
  sd_bnd (sd_isC G 4 a0) fun _ =>
  sd_bnd (R.2.2.2.2.2.1 a0 a1) fun r1 =>
  if r1 = 0 then (
    sd_ret 0)
  else (
    sd_loop (fun k s => fX5_isSum_b10 G R k s.1 s.2) sd_FU (a0, a1))
set_option maxHeartbeats 4000000 in
theorem sX5_isSum (l : Launch) (G : sd_G) (d : Nat) (R : TMP) (HR : HMP l G d R) (a0 : Nat) (a1 : Nat) (h : sd_H) (ρ : Int32) (cT : Nat × Nat) (h2 : sd_H) (hf : fX5_isSum G R a0 a1 h = some (ρ, cT, h2)) : sd_Met mX5_isSum ((l, G), (d + 1 + 8, 45 * (d + 1) + 300), [.ref a0, .ref a1], (sd_oI ρ, h2), cT) h := by
  refine sd_entry (plainFor_of_name rfl) rfl (Nat.le_of_ble_eq_true rfl) ?_
  show sd_J mX5_isSum ((l, G), (d + 1 + 8, 45 * (d + 1) + 300), [.ref a0, .ref a1], (sd_oI ρ, h2), cT) 0 [(0, .ref a0), (1, .ref a1)] [] h cT
  unfold fX5_isSum at hf
  refine sj_aload_n 0 dX5_isSum_0 rfl ?_
  refine sj_aload_n 1 dX5_isSum_1 rfl ?_
  obtain ⟨fs2, he2, hf⟩ := sd_isC_some hf
  refine sj_cI (rest := []) (fun _ _ _ e => sj_runV (n := 1) (As := [.ref a1]) (rest := []) (HR.2.2.2.2.2.1 a0 a1 h _ _ _ e) he2 rfl rfl rfl rfl q3034 q3036 qs65 q127 q3037 (by decide +kernel) rfl rfl ⟨by show d + 8 + 1 ≤ d + 1 + 8; omega, by show 8 + (3 + 11) + (45 * d + 300) ≤ 45 * (d + 1) + 300; omega⟩ rfl (Nat.le_of_ble_eq_true rfl) dX5_isSum_2) hf (fun r1 h c hf => ?_)
  refine sj_ifne 10 hf dX5_isSum_5 (by decide) (fun g5 hf => ?_) (fun g5 hf => ?_)
  · exact sj_loc [0, 1] rfl (sX5_isSum_b10_loop l G d R HR a0 a1 ρ h2 cT sd_FU (a0, a1) _ _ hf)
  · refine sj_iconst (v := 0) dX5_isSum_8 (by decide) ?_
    exact sj_zretC (o := sd_oI) (ty := .boolean) rfl hf rfl rfl rfl dX5_isSum_9
/-! SofaDigModel.isProduct(LSofaDigModel$Plan;)Z -/
def fX5_isProduct_b59 (G : sd_G) (R : TMP) (k10 : Nat × Nat → sd_M Int32) (w0 : Nat) (w1 : Nat) (y0 : Int32) : sd_M Int32 :=
  sd_bnd (sd_getI G 4 10 w0) fun v8 =>
  sd_bnd (sd_put 4 10 .int w0 (.int (v8 + 1))) fun _ =>
  sd_bnd (sd_isC G 4 w0) fun _ =>
  sd_bnd (R.2.2.2.2.2.2.1 w0 w1) fun r9 =>
  if r9 = 0 then (
    sd_ret 0)
  else (
    sd_bnd (sd_isC G 4 w0) fun _ =>
    sd_bnd (fX5_put G w0 w1 y0 0) fun _ =>
    k10 (w0, w1))
set_option maxHeartbeats 4000000 in
theorem sX5_isProduct_b59 (l : Launch) (G : sd_G) (d : Nat) (R : TMP) (HR : HMP l G d R) (a0 : Nat) (a1 : Nat) (ρ : Int32) (h2 : sd_H) (cT : Nat × Nat) (k10 : Nat × Nat → sd_M Int32) (Hk10 : ∀ (q : Nat × Nat) (h : sd_H) (c : Nat × Nat), k10 q h = some (ρ, c, h2) → sd_J mX5_isProduct ((l, G), (d + 1 + 8, 45 * (d + 1) + 300), [.ref a0, .ref a1], (sd_oI ρ, h2), cT) 10 [(0, .ref q.1), (1, .ref q.2)] [] h c) (w0 : Nat) (w1 : Nat) (y0 : Int32) (h : sd_H) (c : Nat × Nat) (hf : fX5_isProduct_b59 G R k10 w0 w1 y0 h = some (ρ, c, h2)) : sd_J mX5_isProduct ((l, G), (d + 1 + 8, 45 * (d + 1) + 300), [.ref a0, .ref a1], (sd_oI ρ, h2), cT) 59 [(0, .ref w0), (1, .ref w1)] [.int y0] h c := by
  unfold fX5_isProduct_b59 at hf
  refine sj_istore_n [(2, .int y0), (0, .ref w0), (1, .ref w1)] dX5_isProduct_59 (by decide) rfl ?_
  refine sj_aload_n 1 dX5_isProduct_60 rfl ?_
  refine sj_dup dX5_isProduct_61 rfl ?_
  refine sj_getI fdX5_256_4 hf dX5_isProduct_62 (fun v8 hf => ?_)
  refine sj_iconst (v := 1) dX5_isProduct_65 (by decide) ?_
  refine sj_iadd dX5_isProduct_66 ?_
  refine sj_put (fpX5_256_4 _ _) hf dX5_isProduct_67 (fun h hf => ?_)
  refine sj_aload_n 1 dX5_isProduct_70 rfl ?_
  refine sj_aload_n 2 dX5_isProduct_71 rfl ?_
  obtain ⟨fs72, he72, hf⟩ := sd_isC_some hf
  refine sj_cI (rest := []) (fun _ _ _ e => sj_runV (n := 1) (As := [.ref w1]) (rest := []) (HR.2.2.2.2.2.2.1 w0 w1 h _ _ _ e) he72 rfl rfl rfl rfl q3038 q3040 qs66 q127 q3041 (by decide +kernel) rfl rfl ⟨by show d + 8 + 1 ≤ d + 1 + 8; omega, by show 8 + (3 + 11) + (45 * d + 300) ≤ 45 * (d + 1) + 300; omega⟩ rfl (Nat.le_of_ble_eq_true rfl) dX5_isProduct_72) hf (fun r9 h c hf => ?_)
  refine sj_ifne 80 hf dX5_isProduct_75 (by decide) (fun g75 hf => ?_) (fun g75 hf => ?_)
  · refine sj_aload_n 1 dX5_isProduct_80 rfl ?_
    refine sj_aload_n 2 dX5_isProduct_81 rfl ?_
    refine sj_iload_n 0 dX5_isProduct_82 rfl ?_
    refine sj_iconst (v := 0) dX5_isProduct_83 (by decide) ?_
    obtain ⟨fs84, he84, hf⟩ := sd_isC_some hf
    refine sj_cV (rest := []) (fun _ _ _ e => sj_runV (n := 3) (As := [.ref w1, .int y0, .int 0]) (rest := []) (sX5_put l G w0 w1 y0 0 h _ _ _ e) he84 rfl rfl rfl rfl q3014 q3016 qs60 q127 q3017 (by decide +kernel) rfl rfl ⟨by show 0 + 1 ≤ d + 1 + 8; omega, by show 8 + (4 + 11) + 0 ≤ 45 * (d + 1) + 300; omega⟩ rfl (Nat.le_of_ble_eq_true rfl) dX5_isProduct_84) hf (fun h c hf => ?_)
    refine sj_goto 10 dX5_isProduct_87 (by decide) ?_
    exact sj_loc [1, 2] rfl (Hk10 (w0, w1) _ _ hf)
  · refine sj_iconst (v := 0) dX5_isProduct_78 (by decide) ?_
    exact sj_zretC (o := sd_oI) (ty := .boolean) rfl hf rfl rfl rfl dX5_isProduct_79
def fX5_isProduct_b38 (G : sd_G) (R : TMP) (k10 : Nat × Nat → sd_M Int32) (w0 : Nat) (w1 : Nat) : sd_M Int32 :=
  sd_bnd (sd_getR G 4 5 w0) fun v5 =>
  sd_bnd (sd_getI G 4 10 w0) fun v6 =>
  sd_bnd (sd_aldI G 0 v5 v6) fun v7 =>
  if v7 = 42 then (
    fX5_isProduct_b59 G R k10 w0 w1 103)
  else (
    fX5_isProduct_b59 G R k10 w0 w1 104)
set_option maxHeartbeats 4000000 in
theorem sX5_isProduct_b38 (l : Launch) (G : sd_G) (d : Nat) (R : TMP) (HR : HMP l G d R) (a0 : Nat) (a1 : Nat) (ρ : Int32) (h2 : sd_H) (cT : Nat × Nat) (k10 : Nat × Nat → sd_M Int32) (Hk10 : ∀ (q : Nat × Nat) (h : sd_H) (c : Nat × Nat), k10 q h = some (ρ, c, h2) → sd_J mX5_isProduct ((l, G), (d + 1 + 8, 45 * (d + 1) + 300), [.ref a0, .ref a1], (sd_oI ρ, h2), cT) 10 [(0, .ref q.1), (1, .ref q.2)] [] h c) (w0 : Nat) (w1 : Nat) (h : sd_H) (c : Nat × Nat) (hf : fX5_isProduct_b38 G R k10 w0 w1 h = some (ρ, c, h2)) : sd_J mX5_isProduct ((l, G), (d + 1 + 8, 45 * (d + 1) + 300), [.ref a0, .ref a1], (sd_oI ρ, h2), cT) 38 [(0, .ref w0), (1, .ref w1)] [] h c := by
  unfold fX5_isProduct_b38 at hf
  refine sj_aload_n 0 dX5_isProduct_38 rfl ?_
  refine sj_getR fdX5_24_4 hf dX5_isProduct_39 (fun v5 hf => ?_)
  refine sj_aload_n 0 dX5_isProduct_42 rfl ?_
  refine sj_getI fdX5_256_4 hf dX5_isProduct_43 (fun v6 hf => ?_)
  refine sj_iald hf dX5_isProduct_46 (fun v7 hf => ?_)
  refine sj_bipush (v := 42) dX5_isProduct_47 (by decide) ?_
  refine sj_icne 57 hf dX5_isProduct_49 (by decide) (fun g49 hf => ?_) (fun g49 hf => ?_)
  · refine sj_bipush (v := 104) dX5_isProduct_57 (by decide) ?_
    exact sj_loc [0, 1] rfl (sX5_isProduct_b59 l G d R HR a0 a1 ρ h2 cT k10 Hk10 w0 w1 104 _ _ hf)
  · refine sj_bipush (v := 103) dX5_isProduct_52 (by decide) ?_
    refine sj_goto 59 dX5_isProduct_54 (by decide) ?_
    exact sj_loc [0, 1] rfl (sX5_isProduct_b59 l G d R HR a0 a1 ρ h2 cT k10 Hk10 w0 w1 103 _ _ hf)
def fX5_isProduct_b10 (G : sd_G) (R : TMP) (k10 : Nat × Nat → sd_M Int32) (w0 : Nat) (w1 : Nat) : sd_M Int32 :=
  sd_bnd (sd_getR G 4 5 w0) fun v2 =>
  sd_bnd (sd_getI G 4 10 w0) fun v3 =>
  sd_bnd (sd_aldI G 0 v2 v3) fun v4 =>
  if v4 = 42 then (
    fX5_isProduct_b38 G R k10 w0 w1)
  else (
    sd_bnd (sd_getR G 4 5 w0) fun v10 =>
    sd_bnd (sd_getI G 4 10 w0) fun v11 =>
    sd_bnd (sd_aldI G 0 v10 v11) fun v12 =>
    if v12 = 47 then (
      fX5_isProduct_b38 G R k10 w0 w1)
    else (
      sd_ret 1))
set_option maxHeartbeats 4000000 in
theorem sX5_isProduct_b10 (l : Launch) (G : sd_G) (d : Nat) (R : TMP) (HR : HMP l G d R) (a0 : Nat) (a1 : Nat) (ρ : Int32) (h2 : sd_H) (cT : Nat × Nat) (k10 : Nat × Nat → sd_M Int32) (Hk10 : ∀ (q : Nat × Nat) (h : sd_H) (c : Nat × Nat), k10 q h = some (ρ, c, h2) → sd_J mX5_isProduct ((l, G), (d + 1 + 8, 45 * (d + 1) + 300), [.ref a0, .ref a1], (sd_oI ρ, h2), cT) 10 [(0, .ref q.1), (1, .ref q.2)] [] h c) (w0 : Nat) (w1 : Nat) (h : sd_H) (c : Nat × Nat) (hf : fX5_isProduct_b10 G R k10 w0 w1 h = some (ρ, c, h2)) : sd_J mX5_isProduct ((l, G), (d + 1 + 8, 45 * (d + 1) + 300), [.ref a0, .ref a1], (sd_oI ρ, h2), cT) 10 [(0, .ref w0), (1, .ref w1)] [] h c := by
  unfold fX5_isProduct_b10 at hf
  refine sj_aload_n 0 dX5_isProduct_10 rfl ?_
  refine sj_getR fdX5_24_4 hf dX5_isProduct_11 (fun v2 hf => ?_)
  refine sj_aload_n 0 dX5_isProduct_14 rfl ?_
  refine sj_getI fdX5_256_4 hf dX5_isProduct_15 (fun v3 hf => ?_)
  refine sj_iald hf dX5_isProduct_18 (fun v4 hf => ?_)
  refine sj_bipush (v := 42) dX5_isProduct_19 (by decide) ?_
  refine sj_iceq 38 hf dX5_isProduct_21 (by decide) (fun g21 hf => ?_) (fun g21 hf => ?_)
  · exact sj_loc [0, 1] rfl (sX5_isProduct_b38 l G d R HR a0 a1 ρ h2 cT k10 Hk10 w0 w1 _ _ hf)
  · refine sj_aload_n 0 dX5_isProduct_24 rfl ?_
    refine sj_getR fdX5_24_4 hf dX5_isProduct_25 (fun v10 hf => ?_)
    refine sj_aload_n 0 dX5_isProduct_28 rfl ?_
    refine sj_getI fdX5_256_4 hf dX5_isProduct_29 (fun v11 hf => ?_)
    refine sj_iald hf dX5_isProduct_32 (fun v12 hf => ?_)
    refine sj_bipush (v := 47) dX5_isProduct_33 (by decide) ?_
    refine sj_icne 90 hf dX5_isProduct_35 (by decide) (fun g35 hf => ?_) (fun g35 hf => ?_)
    · refine sj_iconst (v := 1) dX5_isProduct_90 (by decide) ?_
      exact sj_zretC (o := sd_oI) (ty := .boolean) rfl hf rfl rfl rfl dX5_isProduct_91
    · exact sj_loc [0, 1] rfl (sX5_isProduct_b38 l G d R HR a0 a1 ρ h2 cT k10 Hk10 w0 w1 _ _ hf)
theorem sX5_isProduct_b10_loop (l : Launch) (G : sd_G) (d : Nat) (R : TMP) (HR : HMP l G d R) (a0 : Nat) (a1 : Nat) (ρ : Int32) (h2 : sd_H) (cT : Nat × Nat) (n : Nat) : ∀ (q : Nat × Nat) (h : sd_H) (c : Nat × Nat), sd_loop (fun k s => fX5_isProduct_b10 G R k s.1 s.2) n q h = some (ρ, c, h2) → sd_J mX5_isProduct ((l, G), (d + 1 + 8, 45 * (d + 1) + 300), [.ref a0, .ref a1], (sd_oI ρ, h2), cT) 10 [(0, .ref q.1), (1, .ref q.2)] [] h c := by
  induction n with
  | zero => intro q h c hf; cases hf
  | succ n ih => intro q h c hf; exact sX5_isProduct_b10 l G d R HR a0 a1 ρ h2 cT _ ih _ _ _ _ hf
def fX5_isProduct (G : sd_G) (R : TMP) (a0 : Nat) (a1 : Nat) : sd_M Int32 :=
  sd_bnd (sd_isC G 4 a0) fun _ =>
  sd_bnd (R.2.2.2.2.2.2.1 a0 a1) fun r1 =>
  if r1 = 0 then (
    sd_ret 0)
  else (
    sd_loop (fun k s => fX5_isProduct_b10 G R k s.1 s.2) sd_FU (a0, a1))
set_option maxHeartbeats 4000000 in
theorem sX5_isProduct (l : Launch) (G : sd_G) (d : Nat) (R : TMP) (HR : HMP l G d R) (a0 : Nat) (a1 : Nat) (h : sd_H) (ρ : Int32) (cT : Nat × Nat) (h2 : sd_H) (hf : fX5_isProduct G R a0 a1 h = some (ρ, cT, h2)) : sd_Met mX5_isProduct ((l, G), (d + 1 + 8, 45 * (d + 1) + 300), [.ref a0, .ref a1], (sd_oI ρ, h2), cT) h := by
  refine sd_entry (plainFor_of_name rfl) rfl (Nat.le_of_ble_eq_true rfl) ?_
  show sd_J mX5_isProduct ((l, G), (d + 1 + 8, 45 * (d + 1) + 300), [.ref a0, .ref a1], (sd_oI ρ, h2), cT) 0 [(0, .ref a0), (1, .ref a1)] [] h cT
  unfold fX5_isProduct at hf
  refine sj_aload_n 0 dX5_isProduct_0 rfl ?_
  refine sj_aload_n 1 dX5_isProduct_1 rfl ?_
  obtain ⟨fs2, he2, hf⟩ := sd_isC_some hf
  refine sj_cI (rest := []) (fun _ _ _ e => sj_runV (n := 1) (As := [.ref a1]) (rest := []) (HR.2.2.2.2.2.2.1 a0 a1 h _ _ _ e) he2 rfl rfl rfl rfl q3038 q3040 qs66 q127 q3041 (by decide +kernel) rfl rfl ⟨by show d + 8 + 1 ≤ d + 1 + 8; omega, by show 8 + (3 + 11) + (45 * d + 300) ≤ 45 * (d + 1) + 300; omega⟩ rfl (Nat.le_of_ble_eq_true rfl) dX5_isProduct_2) hf (fun r1 h c hf => ?_)
  refine sj_ifne 10 hf dX5_isProduct_5 (by decide) (fun g5 hf => ?_) (fun g5 hf => ?_)
  · exact sj_loc [0, 1] rfl (sX5_isProduct_b10_loop l G d R HR a0 a1 ρ h2 cT sd_FU (a0, a1) _ _ hf)
  · refine sj_iconst (v := 0) dX5_isProduct_8 (by decide) ?_
    exact sj_zretC (o := sd_oI) (ty := .boolean) rfl hf rfl rfl rfl dX5_isProduct_9
/-! SofaDigModel.isValue(LSofaDigModel$Plan;)Z -/
def fX5_isValue (G : sd_G) (R : TMP) (a0 : Nat) (a1 : Nat) : sd_M Int32 :=
  sd_bnd (sd_getR G 4 5 a0) fun v1 =>
  sd_bnd (sd_getI G 4 10 a0) fun v2 =>
  sd_bnd (sd_aldI G 0 v1 v2) fun v3 =>
  if v3 = 45 then (
    sd_bnd (sd_isC G 4 a0) fun _ =>
    sd_bnd (fX5_deeper G a0 45) fun r18 =>
    if r18 = 0 then (
      sd_ret 0)
    else (
      sd_bnd (sd_isC G 4 a0) fun _ =>
      sd_bnd (R.2.2.2.2.2.2.1 a0 a1) fun r19 =>
      if r19 = 0 then (
        sd_ret 0)
      else (
        sd_bnd (sd_getI G 4 11 a0) fun v20 =>
        sd_bnd (sd_put 4 11 .int a0 (.int (v20 - 1))) fun _ =>
        sd_bnd (sd_isC G 4 a0) fun _ =>
        sd_bnd (fX5_put G a0 a1 105 0) fun _ =>
        sd_ret 1)))
  else (
    if v3 = 40 then (
      sd_bnd (sd_isC G 4 a0) fun _ =>
      sd_bnd (fX5_deeper G a0 40) fun r15 =>
      if r15 = 0 then (
        sd_ret 0)
      else (
        sd_bnd (sd_isC G 4 a0) fun _ =>
        sd_bnd (R.2.2.2.2.1 a0 a1) fun r16 =>
        if r16 = 0 then (
          sd_ret 0)
        else (
          sd_bnd (sd_isC G 4 a0) fun _ =>
          sd_bnd (fX5_closes G a0 41) fun r17 =>
          if r17 = 0 then (
            sd_ret 0)
          else (
            sd_ret 1))))
    else (
      if v3 = 27 then (
        sd_bnd (sd_isC G 4 a0) fun _ =>
        sd_bnd (R.2.2.2.2.2.2.2.2 a0 a1 v3) fun r4 =>
        sd_retN .boolean r4)
      else (
        if v3 = 28 then (
          sd_bnd (sd_isC G 4 a0) fun _ =>
          sd_bnd (R.2.2.2.2.2.2.2.2 a0 a1 v3) fun r14 =>
          sd_retN .boolean r14)
        else (
          if v3 = 19 then (
            sd_bnd (sd_isC G 4 a0) fun _ =>
            sd_bnd (fX5_isAbout G a0 a1 v3) fun r5 =>
            sd_retN .boolean r5)
          else (
            if v3 = 20 then (
              sd_bnd (sd_isC G 4 a0) fun _ =>
              sd_bnd (fX5_isAbout G a0 a1 v3) fun r13 =>
              sd_retN .boolean r13)
            else (
              if v3 = 21 then (
                sd_bnd (sd_isC G 4 a0) fun _ =>
                sd_bnd (R.2.2.2.2.2.2.2.1 a0 a1 v3) fun r12 =>
                sd_retN .boolean r12)
              else (
                if v3 = 31 then (
                  sd_bnd (sd_getR G 4 8 a0) fun v8 =>
                  sd_bnd (sd_getI G 4 10 a0) fun v9 =>
                  sd_bnd (sd_aldL G v8 v9) fun v10 =>
                  sd_bnd (sd_isC G 4 a0) fun _ =>
                  sd_bnd (fX5_put G a0 a1 100 (v10.toInt32)) fun _ =>
                  sd_bnd (sd_getI G 4 10 a0) fun v11 =>
                  sd_bnd (sd_put 4 10 .int a0 (.int (v11 + 1))) fun _ =>
                  sd_ret 1)
                else (
                  sd_bnd (fX5_isIn G v3 15 18) fun r6 =>
                  if r6 = 0 then (
                    sd_ret 0)
                  else (
                    sd_bnd (sd_isC G 4 a0) fun _ =>
                    sd_bnd (fX5_put G a0 a1 v3 0) fun _ =>
                    sd_bnd (sd_getI G 4 10 a0) fun v7 =>
                    sd_bnd (sd_put 4 10 .int a0 (.int (v7 + 1))) fun _ =>
                    sd_ret 1)))))))))
set_option maxHeartbeats 4000000 in
theorem sX5_isValue (l : Launch) (G : sd_G) (d : Nat) (R : TMP) (HR : HMP l G d R) (a0 : Nat) (a1 : Nat) (h : sd_H) (ρ : Int32) (cT : Nat × Nat) (h2 : sd_H) (hf : fX5_isValue G R a0 a1 h = some (ρ, cT, h2)) : sd_Met mX5_isValue ((l, G), (d + 1 + 8, 45 * (d + 1) + 300), [.ref a0, .ref a1], (sd_oI ρ, h2), cT) h := by
  refine sd_entry (plainFor_of_name rfl) rfl (Nat.le_of_ble_eq_true rfl) ?_
  show sd_J mX5_isValue ((l, G), (d + 1 + 8, 45 * (d + 1) + 300), [.ref a0, .ref a1], (sd_oI ρ, h2), cT) 0 [(0, .ref a0), (1, .ref a1)] [] h cT
  unfold fX5_isValue at hf
  refine sj_aload_n 0 dX5_isValue_0 rfl ?_
  refine sj_getR fdX5_24_4 hf dX5_isValue_1 (fun v1 hf => ?_)
  refine sj_aload_n 0 dX5_isValue_4 rfl ?_
  refine sj_getI fdX5_256_4 hf dX5_isValue_5 (fun v2 hf => ?_)
  refine sj_iald hf dX5_isValue_8 (fun v3 hf => ?_)
  refine sj_istore_n [(2, .int v3), (0, .ref a0), (1, .ref a1)] dX5_isValue_9 (by decide) rfl ?_
  refine sj_iload_n 0 dX5_isValue_10 rfl ?_
  refine sj_bipush (v := 45) dX5_isValue_11 (by decide) ?_
  refine sj_icne 55 hf dX5_isValue_13 (by decide) (fun g13 hf => ?_) (fun g13 hf => ?_)
  · refine sj_iload_n 0 dX5_isValue_55 rfl ?_
    refine sj_bipush (v := 40) dX5_isValue_56 (by decide) ?_
    refine sj_icne 93 hf dX5_isValue_58 (by decide) (fun g58 hf => ?_) (fun g58 hf => ?_)
    · refine sj_iload_n 0 dX5_isValue_93 rfl ?_
      refine sj_bipush (v := 27) dX5_isValue_94 (by decide) ?_
      refine sj_iceq 105 hf dX5_isValue_96 (by decide) (fun g96 hf => ?_) (fun g96 hf => ?_)
      · refine sj_aload_n 1 dX5_isValue_105 rfl ?_
        refine sj_aload_n 2 dX5_isValue_106 rfl ?_
        refine sj_iload_n 0 dX5_isValue_107 rfl ?_
        obtain ⟨fs108, he108, hf⟩ := sd_isC_some hf
        refine sj_cI (rest := []) (fun _ _ _ e => sj_runV (n := 2) (As := [.ref a1, .int v3]) (rest := []) (HR.2.2.2.2.2.2.2.2 a0 a1 v3 h _ _ _ e) he108 rfl rfl rfl rfl q3042 q3044 qs67 q127 q3045 (by decide +kernel) rfl rfl ⟨by show d + 8 + 1 ≤ d + 1 + 8; omega, by show 8 + (3 + 11) + (45 * d + 300) ≤ 45 * (d + 1) + 300; omega⟩ rfl (Nat.le_of_ble_eq_true rfl) dX5_isValue_108) hf (fun r4 h c hf => ?_)
        exact sj_zret hf rfl rfl dX5_isValue_111
      · refine sj_iload_n 0 dX5_isValue_99 rfl ?_
        refine sj_bipush (v := 28) dX5_isValue_100 (by decide) ?_
        refine sj_icne 112 hf dX5_isValue_102 (by decide) (fun g102 hf => ?_) (fun g102 hf => ?_)
        · refine sj_iload_n 0 dX5_isValue_112 rfl ?_
          refine sj_bipush (v := 19) dX5_isValue_113 (by decide) ?_
          refine sj_iceq 124 hf dX5_isValue_115 (by decide) (fun g115 hf => ?_) (fun g115 hf => ?_)
          · refine sj_aload_n 1 dX5_isValue_124 rfl ?_
            refine sj_aload_n 2 dX5_isValue_125 rfl ?_
            refine sj_iload_n 0 dX5_isValue_126 rfl ?_
            obtain ⟨fs127, he127, hf⟩ := sd_isC_some hf
            refine sj_cI (rest := []) (fun _ _ _ e => sj_runV (n := 2) (As := [.ref a1, .int v3]) (rest := []) (sX5_isAbout l G a0 a1 v3 h _ _ _ e) he127 rfl rfl rfl rfl q3022 q3024 qs62 q127 q3025 (by decide +kernel) rfl rfl ⟨by show 2 + 1 ≤ d + 1 + 8; omega, by show 8 + (3 + 11) + 43 ≤ 45 * (d + 1) + 300; omega⟩ rfl (Nat.le_of_ble_eq_true rfl) dX5_isValue_127) hf (fun r5 h c hf => ?_)
            exact sj_zret hf rfl rfl dX5_isValue_130
          · refine sj_iload_n 0 dX5_isValue_118 rfl ?_
            refine sj_bipush (v := 20) dX5_isValue_119 (by decide) ?_
            refine sj_icne 131 hf dX5_isValue_121 (by decide) (fun g121 hf => ?_) (fun g121 hf => ?_)
            · refine sj_iload_n 0 dX5_isValue_131 rfl ?_
              refine sj_bipush (v := 21) dX5_isValue_132 (by decide) ?_
              refine sj_icne 144 hf dX5_isValue_134 (by decide) (fun g134 hf => ?_) (fun g134 hf => ?_)
              · refine sj_iload_n 0 dX5_isValue_144 rfl ?_
                refine sj_bipush (v := 31) dX5_isValue_145 (by decide) ?_
                refine sj_icne 170 hf dX5_isValue_147 (by decide) (fun g147 hf => ?_) (fun g147 hf => ?_)
                · refine sj_iload_n 0 dX5_isValue_170 rfl ?_
                  refine sj_bipush (v := 15) dX5_isValue_171 (by decide) ?_
                  refine sj_bipush (v := 18) dX5_isValue_173 (by decide) ?_
                  refine sj_cI (rest := []) (fun _ _ _ e => sj_runS (n := 3) (rest := []) (sX5_isIn l G v3 15 18 h _ _ _ e) rfl rfl q2921 q2922 q127 q2923 (by decide +kernel) rfl ⟨by show 0 + 1 ≤ d + 1 + 8; omega, by show 8 + (3 + 11) + 0 ≤ 45 * (d + 1) + 300; omega⟩ rfl (Nat.le_of_ble_eq_true rfl) dX5_isValue_175) hf (fun r6 h c hf => ?_)
                  refine sj_ifeq 191 hf dX5_isValue_178 (by decide) (fun g178 hf => ?_) (fun g178 hf => ?_)
                  · refine sj_iconst (v := 0) dX5_isValue_191 (by decide) ?_
                    exact sj_zretC (o := sd_oI) (ty := .boolean) rfl hf rfl rfl rfl dX5_isValue_192
                  · refine sj_aload_n 1 dX5_isValue_181 rfl ?_
                    refine sj_aload_n 2 dX5_isValue_182 rfl ?_
                    refine sj_iload_n 0 dX5_isValue_183 rfl ?_
                    refine sj_iconst (v := 0) dX5_isValue_184 (by decide) ?_
                    obtain ⟨fs185, he185, hf⟩ := sd_isC_some hf
                    refine sj_cV (rest := []) (fun _ _ _ e => sj_runV (n := 3) (As := [.ref a1, .int v3, .int 0]) (rest := []) (sX5_put l G a0 a1 v3 0 h _ _ _ e) he185 rfl rfl rfl rfl q3014 q3016 qs60 q127 q3017 (by decide +kernel) rfl rfl ⟨by show 0 + 1 ≤ d + 1 + 8; omega, by show 8 + (4 + 11) + 0 ≤ 45 * (d + 1) + 300; omega⟩ rfl (Nat.le_of_ble_eq_true rfl) dX5_isValue_185) hf (fun h c hf => ?_)
                    refine sj_goto 193 dX5_isValue_188 (by decide) ?_
                    refine sj_aload_n 1 dX5_isValue_193 rfl ?_
                    refine sj_dup dX5_isValue_194 rfl ?_
                    refine sj_getI fdX5_256_4 hf dX5_isValue_195 (fun v7 hf => ?_)
                    refine sj_iconst (v := 1) dX5_isValue_198 (by decide) ?_
                    refine sj_iadd dX5_isValue_199 ?_
                    refine sj_put (fpX5_256_4 _ _) hf dX5_isValue_200 (fun h hf => ?_)
                    refine sj_iconst (v := 1) dX5_isValue_203 (by decide) ?_
                    exact sj_zretC (o := sd_oI) (ty := .boolean) rfl hf rfl rfl rfl dX5_isValue_204
                · refine sj_aload_n 1 dX5_isValue_150 rfl ?_
                  refine sj_aload_n 2 dX5_isValue_151 rfl ?_
                  refine sj_bipush (v := 100) dX5_isValue_152 (by decide) ?_
                  refine sj_aload_n 1 dX5_isValue_154 rfl ?_
                  refine sj_getR fdX5_33_4 hf dX5_isValue_155 (fun v8 hf => ?_)
                  refine sj_aload_n 1 dX5_isValue_158 rfl ?_
                  refine sj_getI fdX5_256_4 hf dX5_isValue_159 (fun v9 hf => ?_)
                  refine sj_lald hf dX5_isValue_162 (fun v10 hf => ?_)
                  refine sj_l2i dX5_isValue_163 ?_
                  obtain ⟨fs164, he164, hf⟩ := sd_isC_some hf
                  refine sj_cV (rest := []) (fun _ _ _ e => sj_runV (n := 3) (As := [.ref a1, .int 100, .int (v10.toInt32)]) (rest := []) (sX5_put l G a0 a1 100 (v10.toInt32) h _ _ _ e) he164 rfl rfl rfl rfl q3014 q3016 qs60 q127 q3017 (by decide +kernel) rfl rfl ⟨by show 0 + 1 ≤ d + 1 + 8; omega, by show 8 + (4 + 11) + 0 ≤ 45 * (d + 1) + 300; omega⟩ rfl (Nat.le_of_ble_eq_true rfl) dX5_isValue_164) hf (fun h c hf => ?_)
                  refine sj_goto 193 dX5_isValue_167 (by decide) ?_
                  refine sj_aload_n 1 dX5_isValue_193 rfl ?_
                  refine sj_dup dX5_isValue_194 rfl ?_
                  refine sj_getI fdX5_256_4 hf dX5_isValue_195 (fun v11 hf => ?_)
                  refine sj_iconst (v := 1) dX5_isValue_198 (by decide) ?_
                  refine sj_iadd dX5_isValue_199 ?_
                  refine sj_put (fpX5_256_4 _ _) hf dX5_isValue_200 (fun h hf => ?_)
                  refine sj_iconst (v := 1) dX5_isValue_203 (by decide) ?_
                  exact sj_zretC (o := sd_oI) (ty := .boolean) rfl hf rfl rfl rfl dX5_isValue_204
              · refine sj_aload_n 1 dX5_isValue_137 rfl ?_
                refine sj_aload_n 2 dX5_isValue_138 rfl ?_
                refine sj_iload_n 0 dX5_isValue_139 rfl ?_
                obtain ⟨fs140, he140, hf⟩ := sd_isC_some hf
                refine sj_cI (rest := []) (fun _ _ _ e => sj_runV (n := 2) (As := [.ref a1, .int v3]) (rest := []) (HR.2.2.2.2.2.2.2.1 a0 a1 v3 h _ _ _ e) he140 rfl rfl rfl rfl q3026 q3028 qs63 q127 q3029 (by decide +kernel) rfl rfl ⟨by show d + 8 + 1 ≤ d + 1 + 8; omega, by show 8 + (3 + 11) + (45 * d + 300) ≤ 45 * (d + 1) + 300; omega⟩ rfl (Nat.le_of_ble_eq_true rfl) dX5_isValue_140) hf (fun r12 h c hf => ?_)
                exact sj_zret hf rfl rfl dX5_isValue_143
            · refine sj_aload_n 1 dX5_isValue_124 rfl ?_
              refine sj_aload_n 2 dX5_isValue_125 rfl ?_
              refine sj_iload_n 0 dX5_isValue_126 rfl ?_
              obtain ⟨fs127, he127, hf⟩ := sd_isC_some hf
              refine sj_cI (rest := []) (fun _ _ _ e => sj_runV (n := 2) (As := [.ref a1, .int v3]) (rest := []) (sX5_isAbout l G a0 a1 v3 h _ _ _ e) he127 rfl rfl rfl rfl q3022 q3024 qs62 q127 q3025 (by decide +kernel) rfl rfl ⟨by show 2 + 1 ≤ d + 1 + 8; omega, by show 8 + (3 + 11) + 43 ≤ 45 * (d + 1) + 300; omega⟩ rfl (Nat.le_of_ble_eq_true rfl) dX5_isValue_127) hf (fun r13 h c hf => ?_)
              exact sj_zret hf rfl rfl dX5_isValue_130
        · refine sj_aload_n 1 dX5_isValue_105 rfl ?_
          refine sj_aload_n 2 dX5_isValue_106 rfl ?_
          refine sj_iload_n 0 dX5_isValue_107 rfl ?_
          obtain ⟨fs108, he108, hf⟩ := sd_isC_some hf
          refine sj_cI (rest := []) (fun _ _ _ e => sj_runV (n := 2) (As := [.ref a1, .int v3]) (rest := []) (HR.2.2.2.2.2.2.2.2 a0 a1 v3 h _ _ _ e) he108 rfl rfl rfl rfl q3042 q3044 qs67 q127 q3045 (by decide +kernel) rfl rfl ⟨by show d + 8 + 1 ≤ d + 1 + 8; omega, by show 8 + (3 + 11) + (45 * d + 300) ≤ 45 * (d + 1) + 300; omega⟩ rfl (Nat.le_of_ble_eq_true rfl) dX5_isValue_108) hf (fun r14 h c hf => ?_)
          exact sj_zret hf rfl rfl dX5_isValue_111
    · refine sj_aload_n 1 dX5_isValue_61 rfl ?_
      refine sj_bipush (v := 40) dX5_isValue_62 (by decide) ?_
      obtain ⟨fs64, he64, hf⟩ := sd_isC_some hf
      refine sj_cI (rest := []) (fun _ _ _ e => sj_runV (n := 1) (As := [.int 40]) (rest := []) (sX5_deeper l G a0 40 h _ _ _ e) he64 rfl rfl rfl rfl q3010 q3012 qs59 q127 q3013 (by decide +kernel) rfl rfl ⟨by show 1 + 1 ≤ d + 1 + 8; omega, by show 8 + (2 + 11) + 21 ≤ 45 * (d + 1) + 300; omega⟩ rfl (Nat.le_of_ble_eq_true rfl) dX5_isValue_64) hf (fun r15 h c hf => ?_)
      refine sj_ifeq 91 hf dX5_isValue_67 (by decide) (fun g67 hf => ?_) (fun g67 hf => ?_)
      · refine sj_iconst (v := 0) dX5_isValue_91 (by decide) ?_
        exact sj_zretC (o := sd_oI) (ty := .boolean) rfl hf rfl rfl rfl dX5_isValue_92
      · refine sj_aload_n 1 dX5_isValue_70 rfl ?_
        refine sj_aload_n 2 dX5_isValue_71 rfl ?_
        obtain ⟨fs72, he72, hf⟩ := sd_isC_some hf
        refine sj_cI (rest := []) (fun _ _ _ e => sj_runV (n := 1) (As := [.ref a1]) (rest := []) (HR.2.2.2.2.1 a0 a1 h _ _ _ e) he72 rfl rfl rfl rfl q3030 q3032 qs64 q127 q3033 (by decide +kernel) rfl rfl ⟨by show d + 8 + 1 ≤ d + 1 + 8; omega, by show 8 + (3 + 11) + (45 * d + 300) ≤ 45 * (d + 1) + 300; omega⟩ rfl (Nat.le_of_ble_eq_true rfl) dX5_isValue_72) hf (fun r16 h c hf => ?_)
        refine sj_ifeq 91 hf dX5_isValue_75 (by decide) (fun g75 hf => ?_) (fun g75 hf => ?_)
        · refine sj_iconst (v := 0) dX5_isValue_91 (by decide) ?_
          exact sj_zretC (o := sd_oI) (ty := .boolean) rfl hf rfl rfl rfl dX5_isValue_92
        · refine sj_aload_n 1 dX5_isValue_78 rfl ?_
          refine sj_bipush (v := 41) dX5_isValue_79 (by decide) ?_
          obtain ⟨fs81, he81, hf⟩ := sd_isC_some hf
          refine sj_cI (rest := []) (fun _ _ _ e => sj_runV (n := 1) (As := [.int 41]) (rest := []) (sX5_closes l G a0 41 h _ _ _ e) he81 rfl rfl rfl rfl q3018 q3020 qs61 q127 q3021 (by decide +kernel) rfl rfl ⟨by show 1 + 1 ≤ d + 1 + 8; omega, by show 8 + (2 + 11) + 21 ≤ 45 * (d + 1) + 300; omega⟩ rfl (Nat.le_of_ble_eq_true rfl) dX5_isValue_81) hf (fun r17 h c hf => ?_)
          refine sj_ifeq 91 hf dX5_isValue_84 (by decide) (fun g84 hf => ?_) (fun g84 hf => ?_)
          · refine sj_iconst (v := 0) dX5_isValue_91 (by decide) ?_
            exact sj_zretC (o := sd_oI) (ty := .boolean) rfl hf rfl rfl rfl dX5_isValue_92
          · refine sj_iconst (v := 1) dX5_isValue_87 (by decide) ?_
            refine sj_goto 92 dX5_isValue_88 (by decide) ?_
            exact sj_zretC (o := sd_oI) (ty := .boolean) rfl hf rfl rfl rfl dX5_isValue_92
  · refine sj_aload_n 1 dX5_isValue_16 rfl ?_
    refine sj_bipush (v := 45) dX5_isValue_17 (by decide) ?_
    obtain ⟨fs19, he19, hf⟩ := sd_isC_some hf
    refine sj_cI (rest := []) (fun _ _ _ e => sj_runV (n := 1) (As := [.int 45]) (rest := []) (sX5_deeper l G a0 45 h _ _ _ e) he19 rfl rfl rfl rfl q3010 q3012 qs59 q127 q3013 (by decide +kernel) rfl rfl ⟨by show 1 + 1 ≤ d + 1 + 8; omega, by show 8 + (2 + 11) + 21 ≤ 45 * (d + 1) + 300; omega⟩ rfl (Nat.le_of_ble_eq_true rfl) dX5_isValue_19) hf (fun r18 h c hf => ?_)
    refine sj_ifeq 33 hf dX5_isValue_22 (by decide) (fun g22 hf => ?_) (fun g22 hf => ?_)
    · refine sj_iconst (v := 0) dX5_isValue_33 (by decide) ?_
      exact sj_zretC (o := sd_oI) (ty := .boolean) rfl hf rfl rfl rfl dX5_isValue_34
    · refine sj_aload_n 1 dX5_isValue_25 rfl ?_
      refine sj_aload_n 2 dX5_isValue_26 rfl ?_
      obtain ⟨fs27, he27, hf⟩ := sd_isC_some hf
      refine sj_cI (rest := []) (fun _ _ _ e => sj_runV (n := 1) (As := [.ref a1]) (rest := []) (HR.2.2.2.2.2.2.1 a0 a1 h _ _ _ e) he27 rfl rfl rfl rfl q3038 q3040 qs66 q127 q3041 (by decide +kernel) rfl rfl ⟨by show d + 8 + 1 ≤ d + 1 + 8; omega, by show 8 + (3 + 11) + (45 * d + 300) ≤ 45 * (d + 1) + 300; omega⟩ rfl (Nat.le_of_ble_eq_true rfl) dX5_isValue_27) hf (fun r19 h c hf => ?_)
      refine sj_ifne 35 hf dX5_isValue_30 (by decide) (fun g30 hf => ?_) (fun g30 hf => ?_)
      · refine sj_aload_n 1 dX5_isValue_35 rfl ?_
        refine sj_dup dX5_isValue_36 rfl ?_
        refine sj_getI fdX5_262_4 hf dX5_isValue_37 (fun v20 hf => ?_)
        refine sj_iconst (v := 1) dX5_isValue_40 (by decide) ?_
        refine sj_isub dX5_isValue_41 ?_
        refine sj_put (fpX5_262_4 _ _) hf dX5_isValue_42 (fun h hf => ?_)
        refine sj_aload_n 1 dX5_isValue_45 rfl ?_
        refine sj_aload_n 2 dX5_isValue_46 rfl ?_
        refine sj_bipush (v := 105) dX5_isValue_47 (by decide) ?_
        refine sj_iconst (v := 0) dX5_isValue_49 (by decide) ?_
        obtain ⟨fs50, he50, hf⟩ := sd_isC_some hf
        refine sj_cV (rest := []) (fun _ _ _ e => sj_runV (n := 3) (As := [.ref a1, .int 105, .int 0]) (rest := []) (sX5_put l G a0 a1 105 0 h _ _ _ e) he50 rfl rfl rfl rfl q3014 q3016 qs60 q127 q3017 (by decide +kernel) rfl rfl ⟨by show 0 + 1 ≤ d + 1 + 8; omega, by show 8 + (4 + 11) + 0 ≤ 45 * (d + 1) + 300; omega⟩ rfl (Nat.le_of_ble_eq_true rfl) dX5_isValue_50) hf (fun h c hf => ?_)
        refine sj_iconst (v := 1) dX5_isValue_53 (by decide) ?_
        exact sj_zretC (o := sd_oI) (ty := .boolean) rfl hf rfl rfl rfl dX5_isValue_54
      · refine sj_iconst (v := 0) dX5_isValue_33 (by decide) ?_
        exact sj_zretC (o := sd_oI) (ty := .boolean) rfl hf rfl rfl rfl dX5_isValue_34
/-! SofaDigModel.isOfOne(LSofaDigModel$Plan;I)Z -/
def fX5_isOfOne_b55 (G : sd_G) (R : TMP) (w0 : Nat) (w1 : Nat) (w2 : Int32) : sd_M Int32 :=
  sd_bnd (sd_isC G 4 w0) fun _ =>
  sd_bnd (fX5_put G w0 w1 w2 0) fun _ =>
  sd_ret 1
set_option maxHeartbeats 4000000 in
theorem sX5_isOfOne_b55 (l : Launch) (G : sd_G) (d : Nat) (R : TMP) (HR : HMP l G d R) (a0 : Nat) (a1 : Nat) (a2 : Int32) (ρ : Int32) (h2 : sd_H) (cT : Nat × Nat) (w0 : Nat) (w1 : Nat) (w2 : Int32) (h : sd_H) (c : Nat × Nat) (hf : fX5_isOfOne_b55 G R w0 w1 w2 h = some (ρ, c, h2)) : sd_J mX5_isOfOne ((l, G), (d + 1 + 8, 45 * (d + 1) + 300), [.ref a0, .ref a1, .int a2], (sd_oI ρ, h2), cT) 55 [(0, .ref w0), (1, .ref w1), (2, .int w2)] [] h c := by
  unfold fX5_isOfOne_b55 at hf
  refine sj_aload_n 0 dX5_isOfOne_55 rfl ?_
  refine sj_aload_n 1 dX5_isOfOne_56 rfl ?_
  refine sj_iload_n 2 dX5_isOfOne_57 rfl ?_
  refine sj_iconst (v := 0) dX5_isOfOne_58 (by decide) ?_
  obtain ⟨fs59, he59, hf⟩ := sd_isC_some hf
  refine sj_cV (rest := []) (fun _ _ _ e => sj_runV (n := 3) (As := [.ref w1, .int w2, .int 0]) (rest := []) (sX5_put l G w0 w1 w2 0 h _ _ _ e) he59 rfl rfl rfl rfl q3014 q3016 qs60 q127 q3017 (by decide +kernel) rfl rfl ⟨by show 0 + 1 ≤ d + 1 + 8; omega, by show 8 + (4 + 11) + 0 ≤ 45 * (d + 1) + 300; omega⟩ rfl (Nat.le_of_ble_eq_true rfl) dX5_isOfOne_59) hf (fun h c hf => ?_)
  refine sj_iconst (v := 1) dX5_isOfOne_62 (by decide) ?_
  exact sj_zretC (o := sd_oI) (ty := .boolean) rfl hf rfl rfl rfl dX5_isOfOne_63
def fX5_isOfOne (G : sd_G) (R : TMP) (a0 : Nat) (a1 : Nat) (a2 : Int32) : sd_M Int32 :=
  sd_bnd (sd_getI G 4 10 a0) fun v1 =>
  sd_bnd (sd_put 4 10 .int a0 (.int (v1 + 1))) fun _ =>
  if a2 = 21 then (
    sd_bnd (sd_isC G 4 a0) fun _ =>
    sd_bnd (fX5_deeper G a0 40) fun r3 =>
    if r3 = 0 then (
      sd_ret 0)
    else (
      sd_bnd (sd_isC G 4 a0) fun _ =>
      sd_bnd (R.2.2.2.2.1 a0 a1) fun r4 =>
      if r4 = 0 then (
        sd_ret 0)
      else (
        sd_bnd (sd_isC G 4 a0) fun _ =>
        sd_bnd (fX5_closes G a0 41) fun r5 =>
        if r5 = 0 then (
          sd_ret 0)
        else (
          fX5_isOfOne_b55 G R a0 a1 a2))))
  else (
    sd_bnd (sd_isC G 4 a0) fun _ =>
    sd_bnd (R.2.2.2.2.1 a0 a1) fun r2 =>
    if r2 = 0 then (
      sd_ret 0)
    else (
      fX5_isOfOne_b55 G R a0 a1 a2))
set_option maxHeartbeats 4000000 in
theorem sX5_isOfOne (l : Launch) (G : sd_G) (d : Nat) (R : TMP) (HR : HMP l G d R) (a0 : Nat) (a1 : Nat) (a2 : Int32) (h : sd_H) (ρ : Int32) (cT : Nat × Nat) (h2 : sd_H) (hf : fX5_isOfOne G R a0 a1 a2 h = some (ρ, cT, h2)) : sd_Met mX5_isOfOne ((l, G), (d + 1 + 8, 45 * (d + 1) + 300), [.ref a0, .ref a1, .int a2], (sd_oI ρ, h2), cT) h := by
  refine sd_entry (plainFor_of_name rfl) rfl (Nat.le_of_ble_eq_true rfl) ?_
  show sd_J mX5_isOfOne ((l, G), (d + 1 + 8, 45 * (d + 1) + 300), [.ref a0, .ref a1, .int a2], (sd_oI ρ, h2), cT) 0 [(0, .ref a0), (1, .ref a1), (2, .int a2)] [] h cT
  unfold fX5_isOfOne at hf
  refine sj_aload_n 0 dX5_isOfOne_0 rfl ?_
  refine sj_dup dX5_isOfOne_1 rfl ?_
  refine sj_getI fdX5_256_4 hf dX5_isOfOne_2 (fun v1 hf => ?_)
  refine sj_iconst (v := 1) dX5_isOfOne_5 (by decide) ?_
  refine sj_iadd dX5_isOfOne_6 ?_
  refine sj_put (fpX5_256_4 _ _) hf dX5_isOfOne_7 (fun h hf => ?_)
  refine sj_iload_n 2 dX5_isOfOne_10 rfl ?_
  refine sj_bipush (v := 21) dX5_isOfOne_11 (by decide) ?_
  refine sj_icne 45 hf dX5_isOfOne_13 (by decide) (fun g13 hf => ?_) (fun g13 hf => ?_)
  · refine sj_aload_n 0 dX5_isOfOne_45 rfl ?_
    refine sj_aload_n 1 dX5_isOfOne_46 rfl ?_
    obtain ⟨fs47, he47, hf⟩ := sd_isC_some hf
    refine sj_cI (rest := []) (fun _ _ _ e => sj_runV (n := 1) (As := [.ref a1]) (rest := []) (HR.2.2.2.2.1 a0 a1 h _ _ _ e) he47 rfl rfl rfl rfl q3030 q3032 qs64 q127 q3033 (by decide +kernel) rfl rfl ⟨by show d + 8 + 1 ≤ d + 1 + 8; omega, by show 8 + (3 + 11) + (45 * d + 300) ≤ 45 * (d + 1) + 300; omega⟩ rfl (Nat.le_of_ble_eq_true rfl) dX5_isOfOne_47) hf (fun r2 h c hf => ?_)
    refine sj_ifne 55 hf dX5_isOfOne_50 (by decide) (fun g50 hf => ?_) (fun g50 hf => ?_)
    · exact sj_loc [0, 1, 2] rfl (sX5_isOfOne_b55 l G d R HR a0 a1 a2 ρ h2 cT a0 a1 a2 _ _ hf)
    · refine sj_iconst (v := 0) dX5_isOfOne_53 (by decide) ?_
      exact sj_zretC (o := sd_oI) (ty := .boolean) rfl hf rfl rfl rfl dX5_isOfOne_54
  · refine sj_aload_n 0 dX5_isOfOne_16 rfl ?_
    refine sj_bipush (v := 40) dX5_isOfOne_17 (by decide) ?_
    obtain ⟨fs19, he19, hf⟩ := sd_isC_some hf
    refine sj_cI (rest := []) (fun _ _ _ e => sj_runV (n := 1) (As := [.int 40]) (rest := []) (sX5_deeper l G a0 40 h _ _ _ e) he19 rfl rfl rfl rfl q3010 q3012 qs59 q127 q3013 (by decide +kernel) rfl rfl ⟨by show 1 + 1 ≤ d + 1 + 8; omega, by show 8 + (2 + 11) + 21 ≤ 45 * (d + 1) + 300; omega⟩ rfl (Nat.le_of_ble_eq_true rfl) dX5_isOfOne_19) hf (fun r3 h c hf => ?_)
    refine sj_ifeq 53 hf dX5_isOfOne_22 (by decide) (fun g22 hf => ?_) (fun g22 hf => ?_)
    · refine sj_iconst (v := 0) dX5_isOfOne_53 (by decide) ?_
      exact sj_zretC (o := sd_oI) (ty := .boolean) rfl hf rfl rfl rfl dX5_isOfOne_54
    · refine sj_aload_n 0 dX5_isOfOne_25 rfl ?_
      refine sj_aload_n 1 dX5_isOfOne_26 rfl ?_
      obtain ⟨fs27, he27, hf⟩ := sd_isC_some hf
      refine sj_cI (rest := []) (fun _ _ _ e => sj_runV (n := 1) (As := [.ref a1]) (rest := []) (HR.2.2.2.2.1 a0 a1 h _ _ _ e) he27 rfl rfl rfl rfl q3030 q3032 qs64 q127 q3033 (by decide +kernel) rfl rfl ⟨by show d + 8 + 1 ≤ d + 1 + 8; omega, by show 8 + (3 + 11) + (45 * d + 300) ≤ 45 * (d + 1) + 300; omega⟩ rfl (Nat.le_of_ble_eq_true rfl) dX5_isOfOne_27) hf (fun r4 h c hf => ?_)
      refine sj_ifeq 53 hf dX5_isOfOne_30 (by decide) (fun g30 hf => ?_) (fun g30 hf => ?_)
      · refine sj_iconst (v := 0) dX5_isOfOne_53 (by decide) ?_
        exact sj_zretC (o := sd_oI) (ty := .boolean) rfl hf rfl rfl rfl dX5_isOfOne_54
      · refine sj_aload_n 0 dX5_isOfOne_33 rfl ?_
        refine sj_bipush (v := 41) dX5_isOfOne_34 (by decide) ?_
        obtain ⟨fs36, he36, hf⟩ := sd_isC_some hf
        refine sj_cI (rest := []) (fun _ _ _ e => sj_runV (n := 1) (As := [.int 41]) (rest := []) (sX5_closes l G a0 41 h _ _ _ e) he36 rfl rfl rfl rfl q3018 q3020 qs61 q127 q3021 (by decide +kernel) rfl rfl ⟨by show 1 + 1 ≤ d + 1 + 8; omega, by show 8 + (2 + 11) + 21 ≤ 45 * (d + 1) + 300; omega⟩ rfl (Nat.le_of_ble_eq_true rfl) dX5_isOfOne_36) hf (fun r5 h c hf => ?_)
        refine sj_ifne 55 hf dX5_isOfOne_39 (by decide) (fun g39 hf => ?_) (fun g39 hf => ?_)
        · exact sj_loc [0, 1, 2] rfl (sX5_isOfOne_b55 l G d R HR a0 a1 a2 ρ h2 cT a0 a1 a2 _ _ hf)
        · refine sj_goto 53 dX5_isOfOne_42 (by decide) ?_
          refine sj_iconst (v := 0) dX5_isOfOne_53 (by decide) ?_
          exact sj_zretC (o := sd_oI) (ty := .boolean) rfl hf rfl rfl rfl dX5_isOfOne_54
/-! SofaDigModel.isOfTwo(LSofaDigModel$Plan;I)Z -/
def fX5_isOfTwo (G : sd_G) (R : TMP) (a0 : Nat) (a1 : Nat) (a2 : Int32) : sd_M Int32 :=
  sd_bnd (sd_getI G 4 10 a0) fun v1 =>
  sd_bnd (sd_put 4 10 .int a0 (.int (v1 + 1))) fun _ =>
  sd_bnd (sd_isC G 4 a0) fun _ =>
  sd_bnd (fX5_deeper G a0 40) fun r2 =>
  if r2 = 0 then (
    sd_ret 0)
  else (
    sd_bnd (sd_isC G 4 a0) fun _ =>
    sd_bnd (R.2.2.2.2.1 a0 a1) fun r3 =>
    if r3 = 0 then (
      sd_ret 0)
    else (
      sd_bnd (sd_isC G 4 a0) fun _ =>
      sd_bnd (fX5_eat G a0 44) fun r4 =>
      if r4 = 0 then (
        sd_ret 0)
      else (
        sd_bnd (sd_isC G 4 a0) fun _ =>
        sd_bnd (R.2.2.2.2.1 a0 a1) fun r5 =>
        if r5 = 0 then (
          sd_ret 0)
        else (
          sd_bnd (sd_isC G 4 a0) fun _ =>
          sd_bnd (fX5_closes G a0 41) fun r6 =>
          if r6 = 0 then (
            sd_ret 0)
          else (
            sd_bnd (sd_isC G 4 a0) fun _ =>
            sd_bnd (fX5_put G a0 a1 a2 0) fun _ =>
            sd_ret 1)))))
set_option maxHeartbeats 4000000 in
theorem sX5_isOfTwo (l : Launch) (G : sd_G) (d : Nat) (R : TMP) (HR : HMP l G d R) (a0 : Nat) (a1 : Nat) (a2 : Int32) (h : sd_H) (ρ : Int32) (cT : Nat × Nat) (h2 : sd_H) (hf : fX5_isOfTwo G R a0 a1 a2 h = some (ρ, cT, h2)) : sd_Met mX5_isOfTwo ((l, G), (d + 1 + 8, 45 * (d + 1) + 300), [.ref a0, .ref a1, .int a2], (sd_oI ρ, h2), cT) h := by
  refine sd_entry (plainFor_of_name rfl) rfl (Nat.le_of_ble_eq_true rfl) ?_
  show sd_J mX5_isOfTwo ((l, G), (d + 1 + 8, 45 * (d + 1) + 300), [.ref a0, .ref a1, .int a2], (sd_oI ρ, h2), cT) 0 [(0, .ref a0), (1, .ref a1), (2, .int a2)] [] h cT
  unfold fX5_isOfTwo at hf
  refine sj_aload_n 0 dX5_isOfTwo_0 rfl ?_
  refine sj_dup dX5_isOfTwo_1 rfl ?_
  refine sj_getI fdX5_256_4 hf dX5_isOfTwo_2 (fun v1 hf => ?_)
  refine sj_iconst (v := 1) dX5_isOfTwo_5 (by decide) ?_
  refine sj_iadd dX5_isOfTwo_6 ?_
  refine sj_put (fpX5_256_4 _ _) hf dX5_isOfTwo_7 (fun h hf => ?_)
  refine sj_aload_n 0 dX5_isOfTwo_10 rfl ?_
  refine sj_bipush (v := 40) dX5_isOfTwo_11 (by decide) ?_
  obtain ⟨fs13, he13, hf⟩ := sd_isC_some hf
  refine sj_cI (rest := []) (fun _ _ _ e => sj_runV (n := 1) (As := [.int 40]) (rest := []) (sX5_deeper l G a0 40 h _ _ _ e) he13 rfl rfl rfl rfl q3010 q3012 qs59 q127 q3013 (by decide +kernel) rfl rfl ⟨by show 1 + 1 ≤ d + 1 + 8; omega, by show 8 + (2 + 11) + 21 ≤ 45 * (d + 1) + 300; omega⟩ rfl (Nat.le_of_ble_eq_true rfl) dX5_isOfTwo_13) hf (fun r2 h c hf => ?_)
  refine sj_ifeq 53 hf dX5_isOfTwo_16 (by decide) (fun g16 hf => ?_) (fun g16 hf => ?_)
  · refine sj_iconst (v := 0) dX5_isOfTwo_53 (by decide) ?_
    exact sj_zretC (o := sd_oI) (ty := .boolean) rfl hf rfl rfl rfl dX5_isOfTwo_54
  · refine sj_aload_n 0 dX5_isOfTwo_19 rfl ?_
    refine sj_aload_n 1 dX5_isOfTwo_20 rfl ?_
    obtain ⟨fs21, he21, hf⟩ := sd_isC_some hf
    refine sj_cI (rest := []) (fun _ _ _ e => sj_runV (n := 1) (As := [.ref a1]) (rest := []) (HR.2.2.2.2.1 a0 a1 h _ _ _ e) he21 rfl rfl rfl rfl q3030 q3032 qs64 q127 q3033 (by decide +kernel) rfl rfl ⟨by show d + 8 + 1 ≤ d + 1 + 8; omega, by show 8 + (3 + 11) + (45 * d + 300) ≤ 45 * (d + 1) + 300; omega⟩ rfl (Nat.le_of_ble_eq_true rfl) dX5_isOfTwo_21) hf (fun r3 h c hf => ?_)
    refine sj_ifeq 53 hf dX5_isOfTwo_24 (by decide) (fun g24 hf => ?_) (fun g24 hf => ?_)
    · refine sj_iconst (v := 0) dX5_isOfTwo_53 (by decide) ?_
      exact sj_zretC (o := sd_oI) (ty := .boolean) rfl hf rfl rfl rfl dX5_isOfTwo_54
    · refine sj_aload_n 0 dX5_isOfTwo_27 rfl ?_
      refine sj_bipush (v := 44) dX5_isOfTwo_28 (by decide) ?_
      obtain ⟨fs30, he30, hf⟩ := sd_isC_some hf
      refine sj_cI (rest := []) (fun _ _ _ e => sj_runV (n := 1) (As := [.int 44]) (rest := []) (sX5_eat l G a0 44 h _ _ _ e) he30 rfl rfl rfl rfl q2977 q2979 qs51 q127 q2980 (by decide +kernel) rfl rfl ⟨by show 0 + 1 ≤ d + 1 + 8; omega, by show 8 + (2 + 11) + 0 ≤ 45 * (d + 1) + 300; omega⟩ rfl (Nat.le_of_ble_eq_true rfl) dX5_isOfTwo_30) hf (fun r4 h c hf => ?_)
      refine sj_ifeq 53 hf dX5_isOfTwo_33 (by decide) (fun g33 hf => ?_) (fun g33 hf => ?_)
      · refine sj_iconst (v := 0) dX5_isOfTwo_53 (by decide) ?_
        exact sj_zretC (o := sd_oI) (ty := .boolean) rfl hf rfl rfl rfl dX5_isOfTwo_54
      · refine sj_aload_n 0 dX5_isOfTwo_36 rfl ?_
        refine sj_aload_n 1 dX5_isOfTwo_37 rfl ?_
        obtain ⟨fs38, he38, hf⟩ := sd_isC_some hf
        refine sj_cI (rest := []) (fun _ _ _ e => sj_runV (n := 1) (As := [.ref a1]) (rest := []) (HR.2.2.2.2.1 a0 a1 h _ _ _ e) he38 rfl rfl rfl rfl q3030 q3032 qs64 q127 q3033 (by decide +kernel) rfl rfl ⟨by show d + 8 + 1 ≤ d + 1 + 8; omega, by show 8 + (3 + 11) + (45 * d + 300) ≤ 45 * (d + 1) + 300; omega⟩ rfl (Nat.le_of_ble_eq_true rfl) dX5_isOfTwo_38) hf (fun r5 h c hf => ?_)
        refine sj_ifeq 53 hf dX5_isOfTwo_41 (by decide) (fun g41 hf => ?_) (fun g41 hf => ?_)
        · refine sj_iconst (v := 0) dX5_isOfTwo_53 (by decide) ?_
          exact sj_zretC (o := sd_oI) (ty := .boolean) rfl hf rfl rfl rfl dX5_isOfTwo_54
        · refine sj_aload_n 0 dX5_isOfTwo_44 rfl ?_
          refine sj_bipush (v := 41) dX5_isOfTwo_45 (by decide) ?_
          obtain ⟨fs47, he47, hf⟩ := sd_isC_some hf
          refine sj_cI (rest := []) (fun _ _ _ e => sj_runV (n := 1) (As := [.int 41]) (rest := []) (sX5_closes l G a0 41 h _ _ _ e) he47 rfl rfl rfl rfl q3018 q3020 qs61 q127 q3021 (by decide +kernel) rfl rfl ⟨by show 1 + 1 ≤ d + 1 + 8; omega, by show 8 + (2 + 11) + 21 ≤ 45 * (d + 1) + 300; omega⟩ rfl (Nat.le_of_ble_eq_true rfl) dX5_isOfTwo_47) hf (fun r6 h c hf => ?_)
          refine sj_ifne 55 hf dX5_isOfTwo_50 (by decide) (fun g50 hf => ?_) (fun g50 hf => ?_)
          · refine sj_aload_n 0 dX5_isOfTwo_55 rfl ?_
            refine sj_aload_n 1 dX5_isOfTwo_56 rfl ?_
            refine sj_iload_n 2 dX5_isOfTwo_57 rfl ?_
            refine sj_iconst (v := 0) dX5_isOfTwo_58 (by decide) ?_
            obtain ⟨fs59, he59, hf⟩ := sd_isC_some hf
            refine sj_cV (rest := []) (fun _ _ _ e => sj_runV (n := 3) (As := [.ref a1, .int a2, .int 0]) (rest := []) (sX5_put l G a0 a1 a2 0 h _ _ _ e) he59 rfl rfl rfl rfl q3014 q3016 qs60 q127 q3017 (by decide +kernel) rfl rfl ⟨by show 0 + 1 ≤ d + 1 + 8; omega, by show 8 + (4 + 11) + 0 ≤ 45 * (d + 1) + 300; omega⟩ rfl (Nat.le_of_ble_eq_true rfl) dX5_isOfTwo_59) hf (fun h c hf => ?_)
            refine sj_iconst (v := 1) dX5_isOfTwo_62 (by decide) ?_
            exact sj_zretC (o := sd_oI) (ty := .boolean) rfl hf rfl rfl rfl dX5_isOfTwo_63
          · refine sj_iconst (v := 0) dX5_isOfTwo_53 (by decide) ?_
            exact sj_zretC (o := sd_oI) (ty := .boolean) rfl hf rfl rfl rfl dX5_isOfTwo_54
def pMP (G : sd_G) : Nat → TMP
  | 0 => (fun _ _ => sd_fail, fun _ _ => sd_fail, fun _ _ => sd_fail, fun _ _ => sd_fail, fun _ _ => sd_fail, fun _ _ => sd_fail, fun _ _ => sd_fail, fun _ _ _ => sd_fail, fun _ _ _ => sd_fail)
  | d + 1 => (fun a0 a1 => fX5_isTest G (pMP G d) a0 a1,
    fun a0 a1 => fX5_isBoth G (pMP G d) a0 a1,
    fun a0 a1 => fX5_isSingle G (pMP G d) a0 a1,
    fun a0 a1 => fX5_isCompare G (pMP G d) a0 a1,
    fun a0 a1 => fX5_isSum G (pMP G d) a0 a1,
    fun a0 a1 => fX5_isProduct G (pMP G d) a0 a1,
    fun a0 a1 => fX5_isValue G (pMP G d) a0 a1,
    fun a0 a1 a2 => fX5_isOfOne G (pMP G d) a0 a1 a2,
    fun a0 a1 a2 => fX5_isOfTwo G (pMP G d) a0 a1 a2)
theorem spMP (l : Launch) (G : sd_G) : ∀ d, HMP l G d (pMP G d)
  | 0 => ⟨fun _ _ _ _ _ _ e => (by cases e), fun _ _ _ _ _ _ e => (by cases e), fun _ _ _ _ _ _ e => (by cases e), fun _ _ _ _ _ _ e => (by cases e), fun _ _ _ _ _ _ e => (by cases e), fun _ _ _ _ _ _ e => (by cases e), fun _ _ _ _ _ _ e => (by cases e), fun _ _ _ _ _ _ _ e => (by cases e), fun _ _ _ _ _ _ _ e => (by cases e)⟩
  | d + 1 => ⟨fun a0 a1 h ρ cT h2 e => sX5_isTest l G d (pMP G d) (spMP l G d) a0 a1 h ρ cT h2 e,
    fun a0 a1 h ρ cT h2 e => sX5_isBoth l G d (pMP G d) (spMP l G d) a0 a1 h ρ cT h2 e,
    fun a0 a1 h ρ cT h2 e => sX5_isSingle l G d (pMP G d) (spMP l G d) a0 a1 h ρ cT h2 e,
    fun a0 a1 h ρ cT h2 e => sX5_isCompare l G d (pMP G d) (spMP l G d) a0 a1 h ρ cT h2 e,
    fun a0 a1 h ρ cT h2 e => sX5_isSum l G d (pMP G d) (spMP l G d) a0 a1 h ρ cT h2 e,
    fun a0 a1 h ρ cT h2 e => sX5_isProduct l G d (pMP G d) (spMP l G d) a0 a1 h ρ cT h2 e,
    fun a0 a1 h ρ cT h2 e => sX5_isValue l G d (pMP G d) (spMP l G d) a0 a1 h ρ cT h2 e,
    fun a0 a1 a2 h ρ cT h2 e => sX5_isOfOne l G d (pMP G d) (spMP l G d) a0 a1 a2 h ρ cT h2 e,
    fun a0 a1 a2 h ρ cT h2 e => sX5_isOfTwo l G d (pMP G d) (spMP l G d) a0 a1 a2 h ρ cT h2 e⟩
