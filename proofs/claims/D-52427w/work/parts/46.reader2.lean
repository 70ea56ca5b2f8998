set_option maxRecDepth 100000
abbrev cX7_test : ByteArray := prog_18_method_23_code
def yX7_test : MethodName := ⟨RX7, "test", "()LSofaDig$Test;"⟩
def dkwX7_test_1 : List UInt8 := [19, 1, 25, 182, 0, 55, 154, 255, 237, 43, 176]
abbrev dktX7_test_1 : List UInt8 := dkwX7_test_1 ++ []
def dkwX7_test_0 : List UInt8 := [187, 1, 14, 89, 3, 183, 1, 16, 76, 43, 180, 1, 19, 42, 182, 1, 22, 182, 0, 193, 87, 42]
abbrev dktX7_test_0 : List UInt8 := dkwX7_test_0 ++ dktX7_test_1
theorem dksX7_test_0 : cX7_test.data.toList.drop 0 = dktX7_test_0 := by decide +kernel
theorem dksX7_test_1 : cX7_test.data.toList.drop 22 = dktX7_test_1 := dk_seg dksX7_test_0 22 rfl rfl
theorem dX7_test_0 : decode cX7_test 0 = .ok (.new 270, 3) := dk_187 1 14 (dk_at dksX7_test_0 0 rfl rfl)
theorem dX7_test_3 : decode cX7_test 3 = .ok (.dup, 1) := dk_89 (dk_at dksX7_test_0 3 rfl rfl)
theorem dX7_test_4 : decode cX7_test 4 = .ok (.iconst 0, 1) := dk_3 (dk_at dksX7_test_0 4 rfl rfl)
theorem dX7_test_5 : decode cX7_test 5 = .ok (.invokespecial 272, 3) := dk_183 1 16 (dk_at dksX7_test_0 5 rfl rfl)
theorem dX7_test_8 : decode cX7_test 8 = .ok (.astore_n 1, 1) := dk_76 (dk_at dksX7_test_0 8 rfl rfl)
theorem dX7_test_9 : decode cX7_test 9 = .ok (.aload_n 1, 1) := dk_43 (dk_at dksX7_test_0 9 rfl rfl)
theorem dX7_test_10 : decode cX7_test 10 = .ok (.getfield 275, 3) := dk_180 1 19 (dk_at dksX7_test_0 10 rfl rfl)
theorem dX7_test_13 : decode cX7_test 13 = .ok (.aload_n 0, 1) := dk_42 (dk_at dksX7_test_0 13 rfl rfl)
theorem dX7_test_14 : decode cX7_test 14 = .ok (.invokevirtual 278, 3) := dk_182 1 22 (dk_at dksX7_test_0 14 rfl rfl)
theorem dX7_test_17 : decode cX7_test 17 = .ok (.invokevirtual 193, 3) := dk_182 0 193 (dk_at dksX7_test_0 17 rfl rfl)
theorem dX7_test_20 : decode cX7_test 20 = .ok (.pop, 1) := dk_87 (dk_at dksX7_test_0 20 rfl rfl)
theorem dX7_test_21 : decode cX7_test 21 = .ok (.aload_n 0, 1) := dk_42 (dk_at dksX7_test_0 21 rfl rfl)
theorem dX7_test_22 : decode cX7_test 22 = .ok (.ldc_w 281, 3) := dk_19 1 25 (dk_at dksX7_test_1 0 rfl rfl)
theorem dX7_test_25 : decode cX7_test 25 = .ok (.invokevirtual 55, 3) := dk_182 0 55 (dk_at dksX7_test_1 3 rfl rfl)
theorem dX7_test_28 : decode cX7_test 28 = .ok (.ifCond .ne (-19), 3) := dk_154 255 237 (dk_at dksX7_test_1 6 rfl rfl)
theorem dX7_test_31 : decode cX7_test 31 = .ok (.aload_n 1, 1) := dk_43 (dk_at dksX7_test_1 9 rfl rfl)
theorem dX7_test_32 : decode cX7_test 32 = .ok (.areturn, 1) := dk_176 (dk_at dksX7_test_1 10 rfl rfl)
abbrev cX7_both : ByteArray := prog_18_method_24_code
def yX7_both : MethodName := ⟨RX7, "both", "()LSofaDig$Test;"⟩
def dkwX7_both_1 : List UInt8 := [19, 1, 30, 182, 0, 55, 154, 255, 237, 43, 176]
abbrev dktX7_both_1 : List UInt8 := dkwX7_both_1 ++ []
def dkwX7_both_0 : List UInt8 := [187, 1, 14, 89, 4, 183, 1, 16, 76, 43, 180, 1, 19, 42, 182, 1, 27, 182, 0, 193, 87, 42]
abbrev dktX7_both_0 : List UInt8 := dkwX7_both_0 ++ dktX7_both_1
theorem dksX7_both_0 : cX7_both.data.toList.drop 0 = dktX7_both_0 := by decide +kernel
theorem dksX7_both_1 : cX7_both.data.toList.drop 22 = dktX7_both_1 := dk_seg dksX7_both_0 22 rfl rfl
theorem dX7_both_0 : decode cX7_both 0 = .ok (.new 270, 3) := dk_187 1 14 (dk_at dksX7_both_0 0 rfl rfl)
theorem dX7_both_3 : decode cX7_both 3 = .ok (.dup, 1) := dk_89 (dk_at dksX7_both_0 3 rfl rfl)
theorem dX7_both_4 : decode cX7_both 4 = .ok (.iconst 1, 1) := dk_4 (dk_at dksX7_both_0 4 rfl rfl)
theorem dX7_both_5 : decode cX7_both 5 = .ok (.invokespecial 272, 3) := dk_183 1 16 (dk_at dksX7_both_0 5 rfl rfl)
theorem dX7_both_8 : decode cX7_both 8 = .ok (.astore_n 1, 1) := dk_76 (dk_at dksX7_both_0 8 rfl rfl)
theorem dX7_both_9 : decode cX7_both 9 = .ok (.aload_n 1, 1) := dk_43 (dk_at dksX7_both_0 9 rfl rfl)
theorem dX7_both_10 : decode cX7_both 10 = .ok (.getfield 275, 3) := dk_180 1 19 (dk_at dksX7_both_0 10 rfl rfl)
theorem dX7_both_13 : decode cX7_both 13 = .ok (.aload_n 0, 1) := dk_42 (dk_at dksX7_both_0 13 rfl rfl)
theorem dX7_both_14 : decode cX7_both 14 = .ok (.invokevirtual 283, 3) := dk_182 1 27 (dk_at dksX7_both_0 14 rfl rfl)
theorem dX7_both_17 : decode cX7_both 17 = .ok (.invokevirtual 193, 3) := dk_182 0 193 (dk_at dksX7_both_0 17 rfl rfl)
theorem dX7_both_20 : decode cX7_both 20 = .ok (.pop, 1) := dk_87 (dk_at dksX7_both_0 20 rfl rfl)
theorem dX7_both_21 : decode cX7_both 21 = .ok (.aload_n 0, 1) := dk_42 (dk_at dksX7_both_0 21 rfl rfl)
theorem dX7_both_22 : decode cX7_both 22 = .ok (.ldc_w 286, 3) := dk_19 1 30 (dk_at dksX7_both_1 0 rfl rfl)
theorem dX7_both_25 : decode cX7_both 25 = .ok (.invokevirtual 55, 3) := dk_182 0 55 (dk_at dksX7_both_1 3 rfl rfl)
theorem dX7_both_28 : decode cX7_both 28 = .ok (.ifCond .ne (-19), 3) := dk_154 255 237 (dk_at dksX7_both_1 6 rfl rfl)
theorem dX7_both_31 : decode cX7_both 31 = .ok (.aload_n 1, 1) := dk_43 (dk_at dksX7_both_1 9 rfl rfl)
theorem dX7_both_32 : decode cX7_both 32 = .ok (.areturn, 1) := dk_176 (dk_at dksX7_both_1 10 rfl rfl)
abbrev cX7_single : ByteArray := prog_18_method_25_code
def yX7_single : MethodName := ⟨RX7, "single", "()LSofaDig$Test;"⟩
def dkwX7_single_8 : List UInt8 := [182, 0, 241, 183, 1, 78, 176]
abbrev dktX7_single_8 : List UInt8 := dkwX7_single_8 ++ []
def dkwX7_single_7 : List UInt8 := [182, 0, 58, 191, 42, 89, 180, 0, 29, 4, 96, 181, 0, 29, 187, 1, 76, 89, 44, 180, 0, 87, 43, 42]
abbrev dktX7_single_7 : List UInt8 := dkwX7_single_7 ++ dktX7_single_8
def dkwX7_single_6 : List UInt8 := [178, 1, 61, 166, 0, 20, 19, 1, 64, 44, 180, 0, 87, 3, 182, 1, 66, 182, 1, 72, 156, 0, 8, 42]
abbrev dktX7_single_6 : List UInt8 := dkwX7_single_6 ++ dktX7_single_7
def dkwX7_single_5 : List UInt8 := [42, 182, 0, 241, 183, 1, 58, 176, 42, 182, 0, 241, 76, 42, 182, 0, 43, 77, 44, 180, 0, 62]
abbrev dktX7_single_5 : List UInt8 := dkwX7_single_5 ++ dktX7_single_6
def dkwX7_single_4 : List UInt8 := [180, 0, 21, 182, 0, 222, 183, 1, 53, 176, 42, 19, 1, 54, 182, 0, 55, 153, 0, 15, 187, 1, 56, 89]
abbrev dktX7_single_4 : List UInt8 := dkwX7_single_4 ++ dktX7_single_5
def dkwX7_single_3 : List UInt8 := [19, 1, 44, 182, 1, 46, 43, 176, 42, 19, 1, 49, 182, 0, 55, 153, 0, 19, 187, 1, 51, 89, 42, 42]
abbrev dktX7_single_3 : List UInt8 := dkwX7_single_3 ++ dktX7_single_4
def dkwX7_single_2 : List UInt8 := [19, 1, 42, 182, 0, 51, 153, 0, 24, 42, 19, 1, 42, 182, 1, 34, 42, 182, 0, 249, 76, 42]
abbrev dktX7_single_2 : List UInt8 := dkwX7_single_2 ++ dktX7_single_3
def dkwX7_single_1 : List UInt8 := [42, 182, 1, 27, 183, 1, 39, 76, 42, 89, 180, 0, 66, 4, 100, 181, 0, 66, 43, 176, 42, 182, 0, 43]
abbrev dktX7_single_1 : List UInt8 := dkwX7_single_1 ++ dktX7_single_2
def dkwX7_single_0 : List UInt8 := [42, 182, 0, 43, 19, 1, 32, 182, 0, 51, 153, 0, 34, 42, 19, 1, 32, 182, 1, 34, 187, 1, 37, 89]
abbrev dktX7_single_0 : List UInt8 := dkwX7_single_0 ++ dktX7_single_1
theorem dksX7_single_0 : cX7_single.data.toList.drop 0 = dktX7_single_0 := by decide +kernel
theorem dksX7_single_1 : cX7_single.data.toList.drop 24 = dktX7_single_1 := dk_seg dksX7_single_0 24 rfl rfl
theorem dksX7_single_2 : cX7_single.data.toList.drop 48 = dktX7_single_2 := dk_seg dksX7_single_1 24 rfl rfl
theorem dksX7_single_3 : cX7_single.data.toList.drop 70 = dktX7_single_3 := dk_seg dksX7_single_2 22 rfl rfl
theorem dksX7_single_4 : cX7_single.data.toList.drop 94 = dktX7_single_4 := dk_seg dksX7_single_3 24 rfl rfl
theorem dksX7_single_5 : cX7_single.data.toList.drop 118 = dktX7_single_5 := dk_seg dksX7_single_4 24 rfl rfl
theorem dksX7_single_6 : cX7_single.data.toList.drop 140 = dktX7_single_6 := dk_seg dksX7_single_5 22 rfl rfl
theorem dksX7_single_7 : cX7_single.data.toList.drop 164 = dktX7_single_7 := dk_seg dksX7_single_6 24 rfl rfl
theorem dksX7_single_8 : cX7_single.data.toList.drop 188 = dktX7_single_8 := dk_seg dksX7_single_7 24 rfl rfl
theorem dX7_single_0 : decode cX7_single 0 = .ok (.aload_n 0, 1) := dk_42 (dk_at dksX7_single_0 0 rfl rfl)
theorem dX7_single_1 : decode cX7_single 1 = .ok (.invokevirtual 43, 3) := dk_182 0 43 (dk_at dksX7_single_0 1 rfl rfl)
theorem dX7_single_4 : decode cX7_single 4 = .ok (.ldc_w 288, 3) := dk_19 1 32 (dk_at dksX7_single_0 4 rfl rfl)
theorem dX7_single_7 : decode cX7_single 7 = .ok (.invokevirtual 51, 3) := dk_182 0 51 (dk_at dksX7_single_0 7 rfl rfl)
theorem dX7_single_10 : decode cX7_single 10 = .ok (.ifCond .eq 34, 3) := dk_153 0 34 (dk_at dksX7_single_0 10 rfl rfl)
theorem dX7_single_13 : decode cX7_single 13 = .ok (.aload_n 0, 1) := dk_42 (dk_at dksX7_single_0 13 rfl rfl)
theorem dX7_single_14 : decode cX7_single 14 = .ok (.ldc_w 288, 3) := dk_19 1 32 (dk_at dksX7_single_0 14 rfl rfl)
theorem dX7_single_17 : decode cX7_single 17 = .ok (.invokevirtual 290, 3) := dk_182 1 34 (dk_at dksX7_single_0 17 rfl rfl)
theorem dX7_single_20 : decode cX7_single 20 = .ok (.new 293, 3) := dk_187 1 37 (dk_at dksX7_single_0 20 rfl rfl)
theorem dX7_single_23 : decode cX7_single 23 = .ok (.dup, 1) := dk_89 (dk_at dksX7_single_0 23 rfl rfl)
theorem dX7_single_24 : decode cX7_single 24 = .ok (.aload_n 0, 1) := dk_42 (dk_at dksX7_single_1 0 rfl rfl)
theorem dX7_single_25 : decode cX7_single 25 = .ok (.invokevirtual 283, 3) := dk_182 1 27 (dk_at dksX7_single_1 1 rfl rfl)
theorem dX7_single_28 : decode cX7_single 28 = .ok (.invokespecial 295, 3) := dk_183 1 39 (dk_at dksX7_single_1 4 rfl rfl)
theorem dX7_single_31 : decode cX7_single 31 = .ok (.astore_n 1, 1) := dk_76 (dk_at dksX7_single_1 7 rfl rfl)
theorem dX7_single_32 : decode cX7_single 32 = .ok (.aload_n 0, 1) := dk_42 (dk_at dksX7_single_1 8 rfl rfl)
theorem dX7_single_33 : decode cX7_single 33 = .ok (.dup, 1) := dk_89 (dk_at dksX7_single_1 9 rfl rfl)
theorem dX7_single_34 : decode cX7_single 34 = .ok (.getfield 66, 3) := dk_180 0 66 (dk_at dksX7_single_1 10 rfl rfl)
theorem dX7_single_37 : decode cX7_single 37 = .ok (.iconst 1, 1) := dk_4 (dk_at dksX7_single_1 13 rfl rfl)
theorem dX7_single_38 : decode cX7_single 38 = .ok (.isub, 1) := dk_100 (dk_at dksX7_single_1 14 rfl rfl)
theorem dX7_single_39 : decode cX7_single 39 = .ok (.putfield 66, 3) := dk_181 0 66 (dk_at dksX7_single_1 15 rfl rfl)
theorem dX7_single_42 : decode cX7_single 42 = .ok (.aload_n 1, 1) := dk_43 (dk_at dksX7_single_1 18 rfl rfl)
theorem dX7_single_43 : decode cX7_single 43 = .ok (.areturn, 1) := dk_176 (dk_at dksX7_single_1 19 rfl rfl)
theorem dX7_single_44 : decode cX7_single 44 = .ok (.aload_n 0, 1) := dk_42 (dk_at dksX7_single_1 20 rfl rfl)
theorem dX7_single_45 : decode cX7_single 45 = .ok (.invokevirtual 43, 3) := dk_182 0 43 (dk_at dksX7_single_1 21 rfl rfl)
theorem dX7_single_48 : decode cX7_single 48 = .ok (.ldc_w 298, 3) := dk_19 1 42 (dk_at dksX7_single_2 0 rfl rfl)
theorem dX7_single_51 : decode cX7_single 51 = .ok (.invokevirtual 51, 3) := dk_182 0 51 (dk_at dksX7_single_2 3 rfl rfl)
theorem dX7_single_54 : decode cX7_single 54 = .ok (.ifCond .eq 24, 3) := dk_153 0 24 (dk_at dksX7_single_2 6 rfl rfl)
theorem dX7_single_57 : decode cX7_single 57 = .ok (.aload_n 0, 1) := dk_42 (dk_at dksX7_single_2 9 rfl rfl)
theorem dX7_single_58 : decode cX7_single 58 = .ok (.ldc_w 298, 3) := dk_19 1 42 (dk_at dksX7_single_2 10 rfl rfl)
theorem dX7_single_61 : decode cX7_single 61 = .ok (.invokevirtual 290, 3) := dk_182 1 34 (dk_at dksX7_single_2 13 rfl rfl)
theorem dX7_single_64 : decode cX7_single 64 = .ok (.aload_n 0, 1) := dk_42 (dk_at dksX7_single_2 16 rfl rfl)
theorem dX7_single_65 : decode cX7_single 65 = .ok (.invokevirtual 249, 3) := dk_182 0 249 (dk_at dksX7_single_2 17 rfl rfl)
theorem dX7_single_68 : decode cX7_single 68 = .ok (.astore_n 1, 1) := dk_76 (dk_at dksX7_single_2 20 rfl rfl)
theorem dX7_single_69 : decode cX7_single 69 = .ok (.aload_n 0, 1) := dk_42 (dk_at dksX7_single_2 21 rfl rfl)
theorem dX7_single_70 : decode cX7_single 70 = .ok (.ldc_w 300, 3) := dk_19 1 44 (dk_at dksX7_single_3 0 rfl rfl)
theorem dX7_single_73 : decode cX7_single 73 = .ok (.invokevirtual 302, 3) := dk_182 1 46 (dk_at dksX7_single_3 3 rfl rfl)
theorem dX7_single_76 : decode cX7_single 76 = .ok (.aload_n 1, 1) := dk_43 (dk_at dksX7_single_3 6 rfl rfl)
theorem dX7_single_77 : decode cX7_single 77 = .ok (.areturn, 1) := dk_176 (dk_at dksX7_single_3 7 rfl rfl)
theorem dX7_single_78 : decode cX7_single 78 = .ok (.aload_n 0, 1) := dk_42 (dk_at dksX7_single_3 8 rfl rfl)
theorem dX7_single_79 : decode cX7_single 79 = .ok (.ldc_w 305, 3) := dk_19 1 49 (dk_at dksX7_single_3 9 rfl rfl)
theorem dX7_single_82 : decode cX7_single 82 = .ok (.invokevirtual 55, 3) := dk_182 0 55 (dk_at dksX7_single_3 12 rfl rfl)
theorem dX7_single_85 : decode cX7_single 85 = .ok (.ifCond .eq 19, 3) := dk_153 0 19 (dk_at dksX7_single_3 15 rfl rfl)
theorem dX7_single_88 : decode cX7_single 88 = .ok (.new 307, 3) := dk_187 1 51 (dk_at dksX7_single_3 18 rfl rfl)
theorem dX7_single_91 : decode cX7_single 91 = .ok (.dup, 1) := dk_89 (dk_at dksX7_single_3 21 rfl rfl)
theorem dX7_single_92 : decode cX7_single 92 = .ok (.aload_n 0, 1) := dk_42 (dk_at dksX7_single_3 22 rfl rfl)
theorem dX7_single_93 : decode cX7_single 93 = .ok (.aload_n 0, 1) := dk_42 (dk_at dksX7_single_3 23 rfl rfl)
theorem dX7_single_94 : decode cX7_single 94 = .ok (.getfield 21, 3) := dk_180 0 21 (dk_at dksX7_single_4 0 rfl rfl)
theorem dX7_single_97 : decode cX7_single 97 = .ok (.invokevirtual 222, 3) := dk_182 0 222 (dk_at dksX7_single_4 3 rfl rfl)
theorem dX7_single_100 : decode cX7_single 100 = .ok (.invokespecial 309, 3) := dk_183 1 53 (dk_at dksX7_single_4 6 rfl rfl)
theorem dX7_single_103 : decode cX7_single 103 = .ok (.areturn, 1) := dk_176 (dk_at dksX7_single_4 9 rfl rfl)
theorem dX7_single_104 : decode cX7_single 104 = .ok (.aload_n 0, 1) := dk_42 (dk_at dksX7_single_4 10 rfl rfl)
theorem dX7_single_105 : decode cX7_single 105 = .ok (.ldc_w 310, 3) := dk_19 1 54 (dk_at dksX7_single_4 11 rfl rfl)
theorem dX7_single_108 : decode cX7_single 108 = .ok (.invokevirtual 55, 3) := dk_182 0 55 (dk_at dksX7_single_4 14 rfl rfl)
theorem dX7_single_111 : decode cX7_single 111 = .ok (.ifCond .eq 15, 3) := dk_153 0 15 (dk_at dksX7_single_4 17 rfl rfl)
theorem dX7_single_114 : decode cX7_single 114 = .ok (.new 312, 3) := dk_187 1 56 (dk_at dksX7_single_4 20 rfl rfl)
theorem dX7_single_117 : decode cX7_single 117 = .ok (.dup, 1) := dk_89 (dk_at dksX7_single_4 23 rfl rfl)
theorem dX7_single_118 : decode cX7_single 118 = .ok (.aload_n 0, 1) := dk_42 (dk_at dksX7_single_5 0 rfl rfl)
theorem dX7_single_119 : decode cX7_single 119 = .ok (.invokevirtual 241, 3) := dk_182 0 241 (dk_at dksX7_single_5 1 rfl rfl)
theorem dX7_single_122 : decode cX7_single 122 = .ok (.invokespecial 314, 3) := dk_183 1 58 (dk_at dksX7_single_5 4 rfl rfl)
theorem dX7_single_125 : decode cX7_single 125 = .ok (.areturn, 1) := dk_176 (dk_at dksX7_single_5 7 rfl rfl)
theorem dX7_single_126 : decode cX7_single 126 = .ok (.aload_n 0, 1) := dk_42 (dk_at dksX7_single_5 8 rfl rfl)
theorem dX7_single_127 : decode cX7_single 127 = .ok (.invokevirtual 241, 3) := dk_182 0 241 (dk_at dksX7_single_5 9 rfl rfl)
theorem dX7_single_130 : decode cX7_single 130 = .ok (.astore_n 1, 1) := dk_76 (dk_at dksX7_single_5 12 rfl rfl)
theorem dX7_single_131 : decode cX7_single 131 = .ok (.aload_n 0, 1) := dk_42 (dk_at dksX7_single_5 13 rfl rfl)
theorem dX7_single_132 : decode cX7_single 132 = .ok (.invokevirtual 43, 3) := dk_182 0 43 (dk_at dksX7_single_5 14 rfl rfl)
theorem dX7_single_135 : decode cX7_single 135 = .ok (.astore_n 2, 1) := dk_77 (dk_at dksX7_single_5 17 rfl rfl)
theorem dX7_single_136 : decode cX7_single 136 = .ok (.aload_n 2, 1) := dk_44 (dk_at dksX7_single_5 18 rfl rfl)
theorem dX7_single_137 : decode cX7_single 137 = .ok (.getfield 62, 3) := dk_180 0 62 (dk_at dksX7_single_5 19 rfl rfl)
theorem dX7_single_140 : decode cX7_single 140 = .ok (.getstatic 317, 3) := dk_178 1 61 (dk_at dksX7_single_6 0 rfl rfl)
theorem dX7_single_143 : decode cX7_single 143 = .ok (.if_acmp .ne 20, 3) := dk_166 0 20 (dk_at dksX7_single_6 3 rfl rfl)
theorem dX7_single_146 : decode cX7_single 146 = .ok (.ldc_w 320, 3) := dk_19 1 64 (dk_at dksX7_single_6 6 rfl rfl)
theorem dX7_single_149 : decode cX7_single 149 = .ok (.aload_n 2, 1) := dk_44 (dk_at dksX7_single_6 9 rfl rfl)
theorem dX7_single_150 : decode cX7_single 150 = .ok (.getfield 87, 3) := dk_180 0 87 (dk_at dksX7_single_6 10 rfl rfl)
theorem dX7_single_153 : decode cX7_single 153 = .ok (.iconst 0, 1) := dk_3 (dk_at dksX7_single_6 13 rfl rfl)
theorem dX7_single_154 : decode cX7_single 154 = .ok (.invokevirtual 322, 3) := dk_182 1 66 (dk_at dksX7_single_6 14 rfl rfl)
theorem dX7_single_157 : decode cX7_single 157 = .ok (.invokevirtual 328, 3) := dk_182 1 72 (dk_at dksX7_single_6 17 rfl rfl)
theorem dX7_single_160 : decode cX7_single 160 = .ok (.ifCond .ge 8, 3) := dk_156 0 8 (dk_at dksX7_single_6 20 rfl rfl)
theorem dX7_single_163 : decode cX7_single 163 = .ok (.aload_n 0, 1) := dk_42 (dk_at dksX7_single_6 23 rfl rfl)
theorem dX7_single_164 : decode cX7_single 164 = .ok (.invokevirtual 58, 3) := dk_182 0 58 (dk_at dksX7_single_7 0 rfl rfl)
theorem dX7_single_167 : decode cX7_single 167 = .ok (.athrow, 1) := dk_191 (dk_at dksX7_single_7 3 rfl rfl)
theorem dX7_single_168 : decode cX7_single 168 = .ok (.aload_n 0, 1) := dk_42 (dk_at dksX7_single_7 4 rfl rfl)
theorem dX7_single_169 : decode cX7_single 169 = .ok (.dup, 1) := dk_89 (dk_at dksX7_single_7 5 rfl rfl)
theorem dX7_single_170 : decode cX7_single 170 = .ok (.getfield 29, 3) := dk_180 0 29 (dk_at dksX7_single_7 6 rfl rfl)
theorem dX7_single_173 : decode cX7_single 173 = .ok (.iconst 1, 1) := dk_4 (dk_at dksX7_single_7 9 rfl rfl)
theorem dX7_single_174 : decode cX7_single 174 = .ok (.iadd, 1) := dk_96 (dk_at dksX7_single_7 10 rfl rfl)
theorem dX7_single_175 : decode cX7_single 175 = .ok (.putfield 29, 3) := dk_181 0 29 (dk_at dksX7_single_7 11 rfl rfl)
theorem dX7_single_178 : decode cX7_single 178 = .ok (.new 332, 3) := dk_187 1 76 (dk_at dksX7_single_7 14 rfl rfl)
theorem dX7_single_181 : decode cX7_single 181 = .ok (.dup, 1) := dk_89 (dk_at dksX7_single_7 17 rfl rfl)
theorem dX7_single_182 : decode cX7_single 182 = .ok (.aload_n 2, 1) := dk_44 (dk_at dksX7_single_7 18 rfl rfl)
theorem dX7_single_183 : decode cX7_single 183 = .ok (.getfield 87, 3) := dk_180 0 87 (dk_at dksX7_single_7 19 rfl rfl)
theorem dX7_single_186 : decode cX7_single 186 = .ok (.aload_n 1, 1) := dk_43 (dk_at dksX7_single_7 22 rfl rfl)
theorem dX7_single_187 : decode cX7_single 187 = .ok (.aload_n 0, 1) := dk_42 (dk_at dksX7_single_7 23 rfl rfl)
theorem dX7_single_188 : decode cX7_single 188 = .ok (.invokevirtual 241, 3) := dk_182 0 241 (dk_at dksX7_single_8 0 rfl rfl)
theorem dX7_single_191 : decode cX7_single 191 = .ok (.invokespecial 334, 3) := dk_183 1 78 (dk_at dksX7_single_8 3 rfl rfl)
theorem dX7_single_194 : decode cX7_single 194 = .ok (.areturn, 1) := dk_176 (dk_at dksX7_single_8 6 rfl rfl)
abbrev cX7_sum : ByteArray := prog_18_method_26_code
def yX7_sum : MethodName := ⟨RX7, "sum", "()LSofaDig$Sum;"⟩
def dkwX7_sum_3 : List UInt8 := [89, 44, 43, 42, 182, 1, 81, 183, 1, 99, 76, 167, 255, 182, 43, 176]
abbrev dktX7_sum_3 : List UInt8 := dkwX7_sum_3 ++ []
def dkwX7_sum_2 : List UInt8 := [167, 0, 6, 178, 1, 94, 77, 44, 178, 1, 94, 166, 0, 10, 42, 19, 1, 86, 182, 0, 69, 187, 1, 97]
abbrev dktX7_sum_2 : List UInt8 := dkwX7_sum_2 ++ dktX7_sum_3
def dkwX7_sum_1 : List UInt8 := [19, 1, 86, 182, 0, 51, 153, 0, 54, 42, 19, 1, 84, 182, 0, 55, 153, 0, 9, 178, 1, 88]
abbrev dktX7_sum_1 : List UInt8 := dkwX7_sum_1 ++ dktX7_sum_2
def dkwX7_sum_0 : List UInt8 := [42, 182, 1, 81, 76, 42, 182, 0, 43, 19, 1, 84, 182, 0, 51, 154, 0, 16, 42, 182, 0, 43]
abbrev dktX7_sum_0 : List UInt8 := dkwX7_sum_0 ++ dktX7_sum_1
theorem dksX7_sum_0 : cX7_sum.data.toList.drop 0 = dktX7_sum_0 := by decide +kernel
theorem dksX7_sum_1 : cX7_sum.data.toList.drop 22 = dktX7_sum_1 := dk_seg dksX7_sum_0 22 rfl rfl
theorem dksX7_sum_2 : cX7_sum.data.toList.drop 44 = dktX7_sum_2 := dk_seg dksX7_sum_1 22 rfl rfl
theorem dksX7_sum_3 : cX7_sum.data.toList.drop 68 = dktX7_sum_3 := dk_seg dksX7_sum_2 24 rfl rfl
theorem dX7_sum_0 : decode cX7_sum 0 = .ok (.aload_n 0, 1) := dk_42 (dk_at dksX7_sum_0 0 rfl rfl)
theorem dX7_sum_1 : decode cX7_sum 1 = .ok (.invokevirtual 337, 3) := dk_182 1 81 (dk_at dksX7_sum_0 1 rfl rfl)
theorem dX7_sum_4 : decode cX7_sum 4 = .ok (.astore_n 1, 1) := dk_76 (dk_at dksX7_sum_0 4 rfl rfl)
theorem dX7_sum_5 : decode cX7_sum 5 = .ok (.aload_n 0, 1) := dk_42 (dk_at dksX7_sum_0 5 rfl rfl)
theorem dX7_sum_6 : decode cX7_sum 6 = .ok (.invokevirtual 43, 3) := dk_182 0 43 (dk_at dksX7_sum_0 6 rfl rfl)
theorem dX7_sum_9 : decode cX7_sum 9 = .ok (.ldc_w 340, 3) := dk_19 1 84 (dk_at dksX7_sum_0 9 rfl rfl)
theorem dX7_sum_12 : decode cX7_sum 12 = .ok (.invokevirtual 51, 3) := dk_182 0 51 (dk_at dksX7_sum_0 12 rfl rfl)
theorem dX7_sum_15 : decode cX7_sum 15 = .ok (.ifCond .ne 16, 3) := dk_154 0 16 (dk_at dksX7_sum_0 15 rfl rfl)
theorem dX7_sum_18 : decode cX7_sum 18 = .ok (.aload_n 0, 1) := dk_42 (dk_at dksX7_sum_0 18 rfl rfl)
theorem dX7_sum_19 : decode cX7_sum 19 = .ok (.invokevirtual 43, 3) := dk_182 0 43 (dk_at dksX7_sum_0 19 rfl rfl)
theorem dX7_sum_22 : decode cX7_sum 22 = .ok (.ldc_w 342, 3) := dk_19 1 86 (dk_at dksX7_sum_1 0 rfl rfl)
theorem dX7_sum_25 : decode cX7_sum 25 = .ok (.invokevirtual 51, 3) := dk_182 0 51 (dk_at dksX7_sum_1 3 rfl rfl)
theorem dX7_sum_28 : decode cX7_sum 28 = .ok (.ifCond .eq 54, 3) := dk_153 0 54 (dk_at dksX7_sum_1 6 rfl rfl)
theorem dX7_sum_31 : decode cX7_sum 31 = .ok (.aload_n 0, 1) := dk_42 (dk_at dksX7_sum_1 9 rfl rfl)
theorem dX7_sum_32 : decode cX7_sum 32 = .ok (.ldc_w 340, 3) := dk_19 1 84 (dk_at dksX7_sum_1 10 rfl rfl)
theorem dX7_sum_35 : decode cX7_sum 35 = .ok (.invokevirtual 55, 3) := dk_182 0 55 (dk_at dksX7_sum_1 13 rfl rfl)
theorem dX7_sum_38 : decode cX7_sum 38 = .ok (.ifCond .eq 9, 3) := dk_153 0 9 (dk_at dksX7_sum_1 16 rfl rfl)
theorem dX7_sum_41 : decode cX7_sum 41 = .ok (.getstatic 344, 3) := dk_178 1 88 (dk_at dksX7_sum_1 19 rfl rfl)
theorem dX7_sum_44 : decode cX7_sum 44 = .ok (.goto 6, 3) := dk_167 0 6 (dk_at dksX7_sum_2 0 rfl rfl)
theorem dX7_sum_47 : decode cX7_sum 47 = .ok (.getstatic 350, 3) := dk_178 1 94 (dk_at dksX7_sum_2 3 rfl rfl)
theorem dX7_sum_50 : decode cX7_sum 50 = .ok (.astore_n 2, 1) := dk_77 (dk_at dksX7_sum_2 6 rfl rfl)
theorem dX7_sum_51 : decode cX7_sum 51 = .ok (.aload_n 2, 1) := dk_44 (dk_at dksX7_sum_2 7 rfl rfl)
theorem dX7_sum_52 : decode cX7_sum 52 = .ok (.getstatic 350, 3) := dk_178 1 94 (dk_at dksX7_sum_2 8 rfl rfl)
theorem dX7_sum_55 : decode cX7_sum 55 = .ok (.if_acmp .ne 10, 3) := dk_166 0 10 (dk_at dksX7_sum_2 11 rfl rfl)
theorem dX7_sum_58 : decode cX7_sum 58 = .ok (.aload_n 0, 1) := dk_42 (dk_at dksX7_sum_2 14 rfl rfl)
theorem dX7_sum_59 : decode cX7_sum 59 = .ok (.ldc_w 342, 3) := dk_19 1 86 (dk_at dksX7_sum_2 15 rfl rfl)
theorem dX7_sum_62 : decode cX7_sum 62 = .ok (.invokevirtual 69, 3) := dk_182 0 69 (dk_at dksX7_sum_2 18 rfl rfl)
theorem dX7_sum_65 : decode cX7_sum 65 = .ok (.new 353, 3) := dk_187 1 97 (dk_at dksX7_sum_2 21 rfl rfl)
theorem dX7_sum_68 : decode cX7_sum 68 = .ok (.dup, 1) := dk_89 (dk_at dksX7_sum_3 0 rfl rfl)
theorem dX7_sum_69 : decode cX7_sum 69 = .ok (.aload_n 2, 1) := dk_44 (dk_at dksX7_sum_3 1 rfl rfl)
theorem dX7_sum_70 : decode cX7_sum 70 = .ok (.aload_n 1, 1) := dk_43 (dk_at dksX7_sum_3 2 rfl rfl)
theorem dX7_sum_71 : decode cX7_sum 71 = .ok (.aload_n 0, 1) := dk_42 (dk_at dksX7_sum_3 3 rfl rfl)
theorem dX7_sum_72 : decode cX7_sum 72 = .ok (.invokevirtual 337, 3) := dk_182 1 81 (dk_at dksX7_sum_3 4 rfl rfl)
theorem dX7_sum_75 : decode cX7_sum 75 = .ok (.invokespecial 355, 3) := dk_183 1 99 (dk_at dksX7_sum_3 7 rfl rfl)
theorem dX7_sum_78 : decode cX7_sum 78 = .ok (.astore_n 1, 1) := dk_76 (dk_at dksX7_sum_3 10 rfl rfl)
theorem dX7_sum_79 : decode cX7_sum 79 = .ok (.goto (-74), 3) := dk_167 255 182 (dk_at dksX7_sum_3 11 rfl rfl)
theorem dX7_sum_82 : decode cX7_sum 82 = .ok (.aload_n 1, 1) := dk_43 (dk_at dksX7_sum_3 14 rfl rfl)
theorem dX7_sum_83 : decode cX7_sum 83 = .ok (.areturn, 1) := dk_176 (dk_at dksX7_sum_3 15 rfl rfl)
abbrev cX7_product : ByteArray := prog_18_method_27_code
def yX7_product : MethodName := ⟨RX7, "product", "()LSofaDig$Sum;"⟩
def dkwX7_product_3 : List UInt8 := [89, 44, 43, 42, 182, 1, 102, 183, 1, 99, 76, 167, 255, 182, 43, 176]
abbrev dktX7_product_3 : List UInt8 := dkwX7_product_3 ++ []
def dkwX7_product_2 : List UInt8 := [167, 0, 6, 178, 1, 112, 77, 44, 178, 1, 112, 166, 0, 10, 42, 19, 1, 107, 182, 0, 69, 187, 1, 97]
abbrev dktX7_product_2 : List UInt8 := dkwX7_product_2 ++ dktX7_product_3
def dkwX7_product_1 : List UInt8 := [19, 1, 107, 182, 0, 51, 153, 0, 54, 42, 19, 1, 105, 182, 0, 55, 153, 0, 9, 178, 1, 109]
abbrev dktX7_product_1 : List UInt8 := dkwX7_product_1 ++ dktX7_product_2
def dkwX7_product_0 : List UInt8 := [42, 182, 1, 102, 76, 42, 182, 0, 43, 19, 1, 105, 182, 0, 51, 154, 0, 16, 42, 182, 0, 43]
abbrev dktX7_product_0 : List UInt8 := dkwX7_product_0 ++ dktX7_product_1
theorem dksX7_product_0 : cX7_product.data.toList.drop 0 = dktX7_product_0 := by decide +kernel
theorem dksX7_product_1 : cX7_product.data.toList.drop 22 = dktX7_product_1 := dk_seg dksX7_product_0 22 rfl rfl
theorem dksX7_product_2 : cX7_product.data.toList.drop 44 = dktX7_product_2 := dk_seg dksX7_product_1 22 rfl rfl
theorem dksX7_product_3 : cX7_product.data.toList.drop 68 = dktX7_product_3 := dk_seg dksX7_product_2 24 rfl rfl
theorem dX7_product_0 : decode cX7_product 0 = .ok (.aload_n 0, 1) := dk_42 (dk_at dksX7_product_0 0 rfl rfl)
theorem dX7_product_1 : decode cX7_product 1 = .ok (.invokevirtual 358, 3) := dk_182 1 102 (dk_at dksX7_product_0 1 rfl rfl)
theorem dX7_product_4 : decode cX7_product 4 = .ok (.astore_n 1, 1) := dk_76 (dk_at dksX7_product_0 4 rfl rfl)
theorem dX7_product_5 : decode cX7_product 5 = .ok (.aload_n 0, 1) := dk_42 (dk_at dksX7_product_0 5 rfl rfl)
theorem dX7_product_6 : decode cX7_product 6 = .ok (.invokevirtual 43, 3) := dk_182 0 43 (dk_at dksX7_product_0 6 rfl rfl)
theorem dX7_product_9 : decode cX7_product 9 = .ok (.ldc_w 361, 3) := dk_19 1 105 (dk_at dksX7_product_0 9 rfl rfl)
theorem dX7_product_12 : decode cX7_product 12 = .ok (.invokevirtual 51, 3) := dk_182 0 51 (dk_at dksX7_product_0 12 rfl rfl)
theorem dX7_product_15 : decode cX7_product 15 = .ok (.ifCond .ne 16, 3) := dk_154 0 16 (dk_at dksX7_product_0 15 rfl rfl)
theorem dX7_product_18 : decode cX7_product 18 = .ok (.aload_n 0, 1) := dk_42 (dk_at dksX7_product_0 18 rfl rfl)
theorem dX7_product_19 : decode cX7_product 19 = .ok (.invokevirtual 43, 3) := dk_182 0 43 (dk_at dksX7_product_0 19 rfl rfl)
theorem dX7_product_22 : decode cX7_product 22 = .ok (.ldc_w 363, 3) := dk_19 1 107 (dk_at dksX7_product_1 0 rfl rfl)
theorem dX7_product_25 : decode cX7_product 25 = .ok (.invokevirtual 51, 3) := dk_182 0 51 (dk_at dksX7_product_1 3 rfl rfl)
theorem dX7_product_28 : decode cX7_product 28 = .ok (.ifCond .eq 54, 3) := dk_153 0 54 (dk_at dksX7_product_1 6 rfl rfl)
theorem dX7_product_31 : decode cX7_product 31 = .ok (.aload_n 0, 1) := dk_42 (dk_at dksX7_product_1 9 rfl rfl)
theorem dX7_product_32 : decode cX7_product 32 = .ok (.ldc_w 361, 3) := dk_19 1 105 (dk_at dksX7_product_1 10 rfl rfl)
theorem dX7_product_35 : decode cX7_product 35 = .ok (.invokevirtual 55, 3) := dk_182 0 55 (dk_at dksX7_product_1 13 rfl rfl)
theorem dX7_product_38 : decode cX7_product 38 = .ok (.ifCond .eq 9, 3) := dk_153 0 9 (dk_at dksX7_product_1 16 rfl rfl)
theorem dX7_product_41 : decode cX7_product 41 = .ok (.getstatic 365, 3) := dk_178 1 109 (dk_at dksX7_product_1 19 rfl rfl)
theorem dX7_product_44 : decode cX7_product 44 = .ok (.goto 6, 3) := dk_167 0 6 (dk_at dksX7_product_2 0 rfl rfl)
theorem dX7_product_47 : decode cX7_product 47 = .ok (.getstatic 368, 3) := dk_178 1 112 (dk_at dksX7_product_2 3 rfl rfl)
theorem dX7_product_50 : decode cX7_product 50 = .ok (.astore_n 2, 1) := dk_77 (dk_at dksX7_product_2 6 rfl rfl)
theorem dX7_product_51 : decode cX7_product 51 = .ok (.aload_n 2, 1) := dk_44 (dk_at dksX7_product_2 7 rfl rfl)
theorem dX7_product_52 : decode cX7_product 52 = .ok (.getstatic 368, 3) := dk_178 1 112 (dk_at dksX7_product_2 8 rfl rfl)
theorem dX7_product_55 : decode cX7_product 55 = .ok (.if_acmp .ne 10, 3) := dk_166 0 10 (dk_at dksX7_product_2 11 rfl rfl)
theorem dX7_product_58 : decode cX7_product 58 = .ok (.aload_n 0, 1) := dk_42 (dk_at dksX7_product_2 14 rfl rfl)
theorem dX7_product_59 : decode cX7_product 59 = .ok (.ldc_w 363, 3) := dk_19 1 107 (dk_at dksX7_product_2 15 rfl rfl)
theorem dX7_product_62 : decode cX7_product 62 = .ok (.invokevirtual 69, 3) := dk_182 0 69 (dk_at dksX7_product_2 18 rfl rfl)
theorem dX7_product_65 : decode cX7_product 65 = .ok (.new 353, 3) := dk_187 1 97 (dk_at dksX7_product_2 21 rfl rfl)
theorem dX7_product_68 : decode cX7_product 68 = .ok (.dup, 1) := dk_89 (dk_at dksX7_product_3 0 rfl rfl)
theorem dX7_product_69 : decode cX7_product 69 = .ok (.aload_n 2, 1) := dk_44 (dk_at dksX7_product_3 1 rfl rfl)
theorem dX7_product_70 : decode cX7_product 70 = .ok (.aload_n 1, 1) := dk_43 (dk_at dksX7_product_3 2 rfl rfl)
theorem dX7_product_71 : decode cX7_product 71 = .ok (.aload_n 0, 1) := dk_42 (dk_at dksX7_product_3 3 rfl rfl)
theorem dX7_product_72 : decode cX7_product 72 = .ok (.invokevirtual 358, 3) := dk_182 1 102 (dk_at dksX7_product_3 4 rfl rfl)
theorem dX7_product_75 : decode cX7_product 75 = .ok (.invokespecial 355, 3) := dk_183 1 99 (dk_at dksX7_product_3 7 rfl rfl)
theorem dX7_product_78 : decode cX7_product 78 = .ok (.astore_n 1, 1) := dk_76 (dk_at dksX7_product_3 10 rfl rfl)
theorem dX7_product_79 : decode cX7_product 79 = .ok (.goto (-74), 3) := dk_167 255 182 (dk_at dksX7_product_3 11 rfl rfl)
theorem dX7_product_82 : decode cX7_product 82 = .ok (.aload_n 1, 1) := dk_43 (dk_at dksX7_product_3 14 rfl rfl)
theorem dX7_product_83 : decode cX7_product 83 = .ok (.areturn, 1) := dk_176 (dk_at dksX7_product_3 15 rfl rfl)
abbrev cX7_value : ByteArray := prog_18_method_29_code
def yX7_value : MethodName := ⟨RX7, "value", "()LSofaDig$Sum;"⟩
def dkwX7_value_10 : List UInt8 := [187, 1, 97, 89, 43, 44, 42, 182, 0, 241, 183, 1, 99, 77, 42, 19, 1, 146, 182, 1, 46, 44, 176]
abbrev dktX7_value_10 : List UInt8 := dkwX7_value_10 ++ []
def dkwX7_value_9 : List UInt8 := [42, 19, 1, 144, 182, 1, 34, 42, 182, 0, 241, 77, 43, 198, 0, 23, 42, 18, 203, 182, 0, 69]
abbrev dktX7_value_9 : List UInt8 := dkwX7_value_9 ++ dktX7_value_10
def dkwX7_value_8 : List UInt8 := [167, 0, 23, 42, 178, 1, 158, 180, 1, 157, 182, 0, 55, 153, 0, 9, 178, 1, 158, 167, 0, 4, 1, 76]
abbrev dktX7_value_8 : List UInt8 := dkwX7_value_8 ++ dktX7_value_9
def dkwX7_value_7 : List UInt8 := [100, 181, 0, 66, 43, 176, 42, 178, 1, 154, 180, 1, 157, 182, 0, 55, 153, 0, 9, 178, 1, 154]
abbrev dktX7_value_7 : List UInt8 := dkwX7_value_7 ++ dktX7_value_8
def dkwX7_value_6 : List UInt8 := [19, 1, 86, 182, 1, 34, 187, 1, 151, 89, 42, 182, 1, 102, 183, 1, 153, 76, 42, 89, 180, 0, 66, 4]
abbrev dktX7_value_6 : List UInt8 := dkwX7_value_6 ++ dktX7_value_7
def dkwX7_value_5 : List UInt8 := [187, 1, 148, 89, 43, 183, 1, 150, 176, 42, 182, 0, 43, 19, 1, 86, 182, 0, 51, 153, 0, 34, 42]
abbrev dktX7_value_5 : List UInt8 := dkwX7_value_5 ++ dktX7_value_6
def dkwX7_value_4 : List UInt8 := [153, 0, 31, 42, 19, 1, 144, 182, 1, 34, 42, 182, 0, 241, 76, 42, 19, 1, 146, 182, 1, 46]
abbrev dktX7_value_4 : List UInt8 := dkwX7_value_4 ++ dktX7_value_5
def dkwX7_value_3 : List UInt8 := [180, 1, 132, 182, 1, 135, 183, 1, 139, 176, 132, 3, 1, 167, 255, 212, 42, 19, 1, 142, 182, 0, 55]
abbrev dktX7_value_3 : List UInt8 := dkwX7_value_3 ++ dktX7_value_4
def dkwX7_value_2 : List UInt8 := [58, 4, 42, 25, 4, 180, 1, 129, 182, 0, 55, 153, 0, 22, 187, 1, 130, 89, 25, 4, 42, 25, 4]
abbrev dktX7_value_2 : List UInt8 := dkwX7_value_2 ++ dktX7_value_3
def dkwX7_value_1 : List UInt8 := [182, 0, 122, 183, 1, 123, 176, 178, 1, 124, 76, 43, 190, 61, 3, 62, 29, 28, 162, 0, 45, 43, 29, 50]
abbrev dktX7_value_1 : List UInt8 := dkwX7_value_1 ++ dktX7_value_2
def dkwX7_value_0 : List UInt8 := [42, 182, 0, 43, 180, 0, 62, 178, 0, 119, 166, 0, 21, 187, 1, 121, 89, 42, 178, 0, 119, 182, 0, 84]
abbrev dktX7_value_0 : List UInt8 := dkwX7_value_0 ++ dktX7_value_1
theorem dksX7_value_0 : cX7_value.data.toList.drop 0 = dktX7_value_0 := by decide +kernel
theorem dksX7_value_1 : cX7_value.data.toList.drop 24 = dktX7_value_1 := dk_seg dksX7_value_0 24 rfl rfl
theorem dksX7_value_2 : cX7_value.data.toList.drop 48 = dktX7_value_2 := dk_seg dksX7_value_1 24 rfl rfl
theorem dksX7_value_3 : cX7_value.data.toList.drop 71 = dktX7_value_3 := dk_seg dksX7_value_2 23 rfl rfl
theorem dksX7_value_4 : cX7_value.data.toList.drop 94 = dktX7_value_4 := dk_seg dksX7_value_3 23 rfl rfl
theorem dksX7_value_5 : cX7_value.data.toList.drop 116 = dktX7_value_5 := dk_seg dksX7_value_4 22 rfl rfl
theorem dksX7_value_6 : cX7_value.data.toList.drop 139 = dktX7_value_6 := dk_seg dksX7_value_5 23 rfl rfl
theorem dksX7_value_7 : cX7_value.data.toList.drop 163 = dktX7_value_7 := dk_seg dksX7_value_6 24 rfl rfl
theorem dksX7_value_8 : cX7_value.data.toList.drop 185 = dktX7_value_8 := dk_seg dksX7_value_7 22 rfl rfl
theorem dksX7_value_9 : cX7_value.data.toList.drop 209 = dktX7_value_9 := dk_seg dksX7_value_8 24 rfl rfl
theorem dksX7_value_10 : cX7_value.data.toList.drop 231 = dktX7_value_10 := dk_seg dksX7_value_9 22 rfl rfl
theorem dX7_value_0 : decode cX7_value 0 = .ok (.aload_n 0, 1) := dk_42 (dk_at dksX7_value_0 0 rfl rfl)
theorem dX7_value_1 : decode cX7_value 1 = .ok (.invokevirtual 43, 3) := dk_182 0 43 (dk_at dksX7_value_0 1 rfl rfl)
theorem dX7_value_4 : decode cX7_value 4 = .ok (.getfield 62, 3) := dk_180 0 62 (dk_at dksX7_value_0 4 rfl rfl)
theorem dX7_value_7 : decode cX7_value 7 = .ok (.getstatic 119, 3) := dk_178 0 119 (dk_at dksX7_value_0 7 rfl rfl)
theorem dX7_value_10 : decode cX7_value 10 = .ok (.if_acmp .ne 21, 3) := dk_166 0 21 (dk_at dksX7_value_0 10 rfl rfl)
theorem dX7_value_13 : decode cX7_value 13 = .ok (.new 377, 3) := dk_187 1 121 (dk_at dksX7_value_0 13 rfl rfl)
theorem dX7_value_16 : decode cX7_value 16 = .ok (.dup, 1) := dk_89 (dk_at dksX7_value_0 16 rfl rfl)
theorem dX7_value_17 : decode cX7_value 17 = .ok (.aload_n 0, 1) := dk_42 (dk_at dksX7_value_0 17 rfl rfl)
theorem dX7_value_18 : decode cX7_value 18 = .ok (.getstatic 119, 3) := dk_178 0 119 (dk_at dksX7_value_0 18 rfl rfl)
theorem dX7_value_21 : decode cX7_value 21 = .ok (.invokevirtual 84, 3) := dk_182 0 84 (dk_at dksX7_value_0 21 rfl rfl)
theorem dX7_value_24 : decode cX7_value 24 = .ok (.invokevirtual 122, 3) := dk_182 0 122 (dk_at dksX7_value_1 0 rfl rfl)
theorem dX7_value_27 : decode cX7_value 27 = .ok (.invokespecial 379, 3) := dk_183 1 123 (dk_at dksX7_value_1 3 rfl rfl)
theorem dX7_value_30 : decode cX7_value 30 = .ok (.areturn, 1) := dk_176 (dk_at dksX7_value_1 6 rfl rfl)
theorem dX7_value_31 : decode cX7_value 31 = .ok (.getstatic 380, 3) := dk_178 1 124 (dk_at dksX7_value_1 7 rfl rfl)
theorem dX7_value_34 : decode cX7_value 34 = .ok (.astore_n 1, 1) := dk_76 (dk_at dksX7_value_1 10 rfl rfl)
theorem dX7_value_35 : decode cX7_value 35 = .ok (.aload_n 1, 1) := dk_43 (dk_at dksX7_value_1 11 rfl rfl)
theorem dX7_value_36 : decode cX7_value 36 = .ok (.arraylength, 1) := dk_190 (dk_at dksX7_value_1 12 rfl rfl)
theorem dX7_value_37 : decode cX7_value 37 = .ok (.istore_n 2, 1) := dk_61 (dk_at dksX7_value_1 13 rfl rfl)
theorem dX7_value_38 : decode cX7_value 38 = .ok (.iconst 0, 1) := dk_3 (dk_at dksX7_value_1 14 rfl rfl)
theorem dX7_value_39 : decode cX7_value 39 = .ok (.istore_n 3, 1) := dk_62 (dk_at dksX7_value_1 15 rfl rfl)
theorem dX7_value_40 : decode cX7_value 40 = .ok (.iload_n 3, 1) := dk_29 (dk_at dksX7_value_1 16 rfl rfl)
theorem dX7_value_41 : decode cX7_value 41 = .ok (.iload_n 2, 1) := dk_28 (dk_at dksX7_value_1 17 rfl rfl)
theorem dX7_value_42 : decode cX7_value 42 = .ok (.if_icmp .ge 45, 3) := dk_162 0 45 (dk_at dksX7_value_1 18 rfl rfl)
theorem dX7_value_45 : decode cX7_value 45 = .ok (.aload_n 1, 1) := dk_43 (dk_at dksX7_value_1 21 rfl rfl)
theorem dX7_value_46 : decode cX7_value 46 = .ok (.iload_n 3, 1) := dk_29 (dk_at dksX7_value_1 22 rfl rfl)
theorem dX7_value_47 : decode cX7_value 47 = .ok (.aaload, 1) := dk_50 (dk_at dksX7_value_1 23 rfl rfl)
theorem dX7_value_48 : decode cX7_value 48 = .ok (.astore 4, 2) := dk_58 4 (dk_at dksX7_value_2 0 rfl rfl)
theorem dX7_value_50 : decode cX7_value 50 = .ok (.aload_n 0, 1) := dk_42 (dk_at dksX7_value_2 2 rfl rfl)
theorem dX7_value_51 : decode cX7_value 51 = .ok (.aload 4, 2) := dk_25 4 (dk_at dksX7_value_2 3 rfl rfl)
theorem dX7_value_53 : decode cX7_value 53 = .ok (.getfield 385, 3) := dk_180 1 129 (dk_at dksX7_value_2 5 rfl rfl)
theorem dX7_value_56 : decode cX7_value 56 = .ok (.invokevirtual 55, 3) := dk_182 0 55 (dk_at dksX7_value_2 8 rfl rfl)
theorem dX7_value_59 : decode cX7_value 59 = .ok (.ifCond .eq 22, 3) := dk_153 0 22 (dk_at dksX7_value_2 11 rfl rfl)
theorem dX7_value_62 : decode cX7_value 62 = .ok (.new 386, 3) := dk_187 1 130 (dk_at dksX7_value_2 14 rfl rfl)
theorem dX7_value_65 : decode cX7_value 65 = .ok (.dup, 1) := dk_89 (dk_at dksX7_value_2 17 rfl rfl)
theorem dX7_value_66 : decode cX7_value 66 = .ok (.aload 4, 2) := dk_25 4 (dk_at dksX7_value_2 18 rfl rfl)
theorem dX7_value_68 : decode cX7_value 68 = .ok (.aload_n 0, 1) := dk_42 (dk_at dksX7_value_2 20 rfl rfl)
theorem dX7_value_69 : decode cX7_value 69 = .ok (.aload 4, 2) := dk_25 4 (dk_at dksX7_value_2 21 rfl rfl)
theorem dX7_value_71 : decode cX7_value 71 = .ok (.getfield 388, 3) := dk_180 1 132 (dk_at dksX7_value_3 0 rfl rfl)
theorem dX7_value_74 : decode cX7_value 74 = .ok (.invokevirtual 391, 3) := dk_182 1 135 (dk_at dksX7_value_3 3 rfl rfl)
theorem dX7_value_77 : decode cX7_value 77 = .ok (.invokespecial 395, 3) := dk_183 1 139 (dk_at dksX7_value_3 6 rfl rfl)
theorem dX7_value_80 : decode cX7_value 80 = .ok (.areturn, 1) := dk_176 (dk_at dksX7_value_3 9 rfl rfl)
theorem dX7_value_81 : decode cX7_value 81 = .ok (.iinc 3 1, 3) := dk_132 3 1 (dk_at dksX7_value_3 10 rfl rfl)
theorem dX7_value_84 : decode cX7_value 84 = .ok (.goto (-44), 3) := dk_167 255 212 (dk_at dksX7_value_3 13 rfl rfl)
theorem dX7_value_87 : decode cX7_value 87 = .ok (.aload_n 0, 1) := dk_42 (dk_at dksX7_value_3 16 rfl rfl)
theorem dX7_value_88 : decode cX7_value 88 = .ok (.ldc_w 398, 3) := dk_19 1 142 (dk_at dksX7_value_3 17 rfl rfl)
theorem dX7_value_91 : decode cX7_value 91 = .ok (.invokevirtual 55, 3) := dk_182 0 55 (dk_at dksX7_value_3 20 rfl rfl)
theorem dX7_value_94 : decode cX7_value 94 = .ok (.ifCond .eq 31, 3) := dk_153 0 31 (dk_at dksX7_value_4 0 rfl rfl)
theorem dX7_value_97 : decode cX7_value 97 = .ok (.aload_n 0, 1) := dk_42 (dk_at dksX7_value_4 3 rfl rfl)
theorem dX7_value_98 : decode cX7_value 98 = .ok (.ldc_w 400, 3) := dk_19 1 144 (dk_at dksX7_value_4 4 rfl rfl)
theorem dX7_value_101 : decode cX7_value 101 = .ok (.invokevirtual 290, 3) := dk_182 1 34 (dk_at dksX7_value_4 7 rfl rfl)
theorem dX7_value_104 : decode cX7_value 104 = .ok (.aload_n 0, 1) := dk_42 (dk_at dksX7_value_4 10 rfl rfl)
theorem dX7_value_105 : decode cX7_value 105 = .ok (.invokevirtual 241, 3) := dk_182 0 241 (dk_at dksX7_value_4 11 rfl rfl)
theorem dX7_value_108 : decode cX7_value 108 = .ok (.astore_n 1, 1) := dk_76 (dk_at dksX7_value_4 14 rfl rfl)
theorem dX7_value_109 : decode cX7_value 109 = .ok (.aload_n 0, 1) := dk_42 (dk_at dksX7_value_4 15 rfl rfl)
theorem dX7_value_110 : decode cX7_value 110 = .ok (.ldc_w 402, 3) := dk_19 1 146 (dk_at dksX7_value_4 16 rfl rfl)
theorem dX7_value_113 : decode cX7_value 113 = .ok (.invokevirtual 302, 3) := dk_182 1 46 (dk_at dksX7_value_4 19 rfl rfl)
theorem dX7_value_116 : decode cX7_value 116 = .ok (.new 404, 3) := dk_187 1 148 (dk_at dksX7_value_5 0 rfl rfl)
theorem dX7_value_119 : decode cX7_value 119 = .ok (.dup, 1) := dk_89 (dk_at dksX7_value_5 3 rfl rfl)
theorem dX7_value_120 : decode cX7_value 120 = .ok (.aload_n 1, 1) := dk_43 (dk_at dksX7_value_5 4 rfl rfl)
theorem dX7_value_121 : decode cX7_value 121 = .ok (.invokespecial 406, 3) := dk_183 1 150 (dk_at dksX7_value_5 5 rfl rfl)
theorem dX7_value_124 : decode cX7_value 124 = .ok (.areturn, 1) := dk_176 (dk_at dksX7_value_5 8 rfl rfl)
theorem dX7_value_125 : decode cX7_value 125 = .ok (.aload_n 0, 1) := dk_42 (dk_at dksX7_value_5 9 rfl rfl)
theorem dX7_value_126 : decode cX7_value 126 = .ok (.invokevirtual 43, 3) := dk_182 0 43 (dk_at dksX7_value_5 10 rfl rfl)
theorem dX7_value_129 : decode cX7_value 129 = .ok (.ldc_w 342, 3) := dk_19 1 86 (dk_at dksX7_value_5 13 rfl rfl)
theorem dX7_value_132 : decode cX7_value 132 = .ok (.invokevirtual 51, 3) := dk_182 0 51 (dk_at dksX7_value_5 16 rfl rfl)
theorem dX7_value_135 : decode cX7_value 135 = .ok (.ifCond .eq 34, 3) := dk_153 0 34 (dk_at dksX7_value_5 19 rfl rfl)
theorem dX7_value_138 : decode cX7_value 138 = .ok (.aload_n 0, 1) := dk_42 (dk_at dksX7_value_5 22 rfl rfl)
theorem dX7_value_139 : decode cX7_value 139 = .ok (.ldc_w 342, 3) := dk_19 1 86 (dk_at dksX7_value_6 0 rfl rfl)
theorem dX7_value_142 : decode cX7_value 142 = .ok (.invokevirtual 290, 3) := dk_182 1 34 (dk_at dksX7_value_6 3 rfl rfl)
theorem dX7_value_145 : decode cX7_value 145 = .ok (.new 407, 3) := dk_187 1 151 (dk_at dksX7_value_6 6 rfl rfl)
theorem dX7_value_148 : decode cX7_value 148 = .ok (.dup, 1) := dk_89 (dk_at dksX7_value_6 9 rfl rfl)
theorem dX7_value_149 : decode cX7_value 149 = .ok (.aload_n 0, 1) := dk_42 (dk_at dksX7_value_6 10 rfl rfl)
theorem dX7_value_150 : decode cX7_value 150 = .ok (.invokevirtual 358, 3) := dk_182 1 102 (dk_at dksX7_value_6 11 rfl rfl)
theorem dX7_value_153 : decode cX7_value 153 = .ok (.invokespecial 409, 3) := dk_183 1 153 (dk_at dksX7_value_6 14 rfl rfl)
theorem dX7_value_156 : decode cX7_value 156 = .ok (.astore_n 1, 1) := dk_76 (dk_at dksX7_value_6 17 rfl rfl)
theorem dX7_value_157 : decode cX7_value 157 = .ok (.aload_n 0, 1) := dk_42 (dk_at dksX7_value_6 18 rfl rfl)
theorem dX7_value_158 : decode cX7_value 158 = .ok (.dup, 1) := dk_89 (dk_at dksX7_value_6 19 rfl rfl)
theorem dX7_value_159 : decode cX7_value 159 = .ok (.getfield 66, 3) := dk_180 0 66 (dk_at dksX7_value_6 20 rfl rfl)
theorem dX7_value_162 : decode cX7_value 162 = .ok (.iconst 1, 1) := dk_4 (dk_at dksX7_value_6 23 rfl rfl)
theorem dX7_value_163 : decode cX7_value 163 = .ok (.isub, 1) := dk_100 (dk_at dksX7_value_7 0 rfl rfl)
theorem dX7_value_164 : decode cX7_value 164 = .ok (.putfield 66, 3) := dk_181 0 66 (dk_at dksX7_value_7 1 rfl rfl)
theorem dX7_value_167 : decode cX7_value 167 = .ok (.aload_n 1, 1) := dk_43 (dk_at dksX7_value_7 4 rfl rfl)
theorem dX7_value_168 : decode cX7_value 168 = .ok (.areturn, 1) := dk_176 (dk_at dksX7_value_7 5 rfl rfl)
theorem dX7_value_169 : decode cX7_value 169 = .ok (.aload_n 0, 1) := dk_42 (dk_at dksX7_value_7 6 rfl rfl)
theorem dX7_value_170 : decode cX7_value 170 = .ok (.getstatic 410, 3) := dk_178 1 154 (dk_at dksX7_value_7 7 rfl rfl)
theorem dX7_value_173 : decode cX7_value 173 = .ok (.getfield 413, 3) := dk_180 1 157 (dk_at dksX7_value_7 10 rfl rfl)
theorem dX7_value_176 : decode cX7_value 176 = .ok (.invokevirtual 55, 3) := dk_182 0 55 (dk_at dksX7_value_7 13 rfl rfl)
theorem dX7_value_179 : decode cX7_value 179 = .ok (.ifCond .eq 9, 3) := dk_153 0 9 (dk_at dksX7_value_7 16 rfl rfl)
theorem dX7_value_182 : decode cX7_value 182 = .ok (.getstatic 410, 3) := dk_178 1 154 (dk_at dksX7_value_7 19 rfl rfl)
theorem dX7_value_185 : decode cX7_value 185 = .ok (.goto 23, 3) := dk_167 0 23 (dk_at dksX7_value_8 0 rfl rfl)
theorem dX7_value_188 : decode cX7_value 188 = .ok (.aload_n 0, 1) := dk_42 (dk_at dksX7_value_8 3 rfl rfl)
theorem dX7_value_189 : decode cX7_value 189 = .ok (.getstatic 414, 3) := dk_178 1 158 (dk_at dksX7_value_8 4 rfl rfl)
theorem dX7_value_192 : decode cX7_value 192 = .ok (.getfield 413, 3) := dk_180 1 157 (dk_at dksX7_value_8 7 rfl rfl)
theorem dX7_value_195 : decode cX7_value 195 = .ok (.invokevirtual 55, 3) := dk_182 0 55 (dk_at dksX7_value_8 10 rfl rfl)
theorem dX7_value_198 : decode cX7_value 198 = .ok (.ifCond .eq 9, 3) := dk_153 0 9 (dk_at dksX7_value_8 13 rfl rfl)
theorem dX7_value_201 : decode cX7_value 201 = .ok (.getstatic 414, 3) := dk_178 1 158 (dk_at dksX7_value_8 16 rfl rfl)
theorem dX7_value_204 : decode cX7_value 204 = .ok (.goto 4, 3) := dk_167 0 4 (dk_at dksX7_value_8 19 rfl rfl)
theorem dX7_value_207 : decode cX7_value 207 = .ok (.aconst_null, 1) := dk_1 (dk_at dksX7_value_8 22 rfl rfl)
theorem dX7_value_208 : decode cX7_value 208 = .ok (.astore_n 1, 1) := dk_76 (dk_at dksX7_value_8 23 rfl rfl)
theorem dX7_value_209 : decode cX7_value 209 = .ok (.aload_n 0, 1) := dk_42 (dk_at dksX7_value_9 0 rfl rfl)
theorem dX7_value_210 : decode cX7_value 210 = .ok (.ldc_w 400, 3) := dk_19 1 144 (dk_at dksX7_value_9 1 rfl rfl)
theorem dX7_value_213 : decode cX7_value 213 = .ok (.invokevirtual 290, 3) := dk_182 1 34 (dk_at dksX7_value_9 4 rfl rfl)
theorem dX7_value_216 : decode cX7_value 216 = .ok (.aload_n 0, 1) := dk_42 (dk_at dksX7_value_9 7 rfl rfl)
theorem dX7_value_217 : decode cX7_value 217 = .ok (.invokevirtual 241, 3) := dk_182 0 241 (dk_at dksX7_value_9 8 rfl rfl)
theorem dX7_value_220 : decode cX7_value 220 = .ok (.astore_n 2, 1) := dk_77 (dk_at dksX7_value_9 11 rfl rfl)
theorem dX7_value_221 : decode cX7_value 221 = .ok (.aload_n 1, 1) := dk_43 (dk_at dksX7_value_9 12 rfl rfl)
theorem dX7_value_222 : decode cX7_value 222 = .ok (.ifnull 23, 3) := dk_198 0 23 (dk_at dksX7_value_9 13 rfl rfl)
theorem dX7_value_225 : decode cX7_value 225 = .ok (.aload_n 0, 1) := dk_42 (dk_at dksX7_value_9 16 rfl rfl)
theorem dX7_value_226 : decode cX7_value 226 = .ok (.ldc 203, 2) := dk_18 203 (dk_at dksX7_value_9 17 rfl rfl)
theorem dX7_value_228 : decode cX7_value 228 = .ok (.invokevirtual 69, 3) := dk_182 0 69 (dk_at dksX7_value_9 19 rfl rfl)
theorem dX7_value_231 : decode cX7_value 231 = .ok (.new 353, 3) := dk_187 1 97 (dk_at dksX7_value_10 0 rfl rfl)
theorem dX7_value_234 : decode cX7_value 234 = .ok (.dup, 1) := dk_89 (dk_at dksX7_value_10 3 rfl rfl)
theorem dX7_value_235 : decode cX7_value 235 = .ok (.aload_n 1, 1) := dk_43 (dk_at dksX7_value_10 4 rfl rfl)
theorem dX7_value_236 : decode cX7_value 236 = .ok (.aload_n 2, 1) := dk_44 (dk_at dksX7_value_10 5 rfl rfl)
theorem dX7_value_237 : decode cX7_value 237 = .ok (.aload_n 0, 1) := dk_42 (dk_at dksX7_value_10 6 rfl rfl)
theorem dX7_value_238 : decode cX7_value 238 = .ok (.invokevirtual 241, 3) := dk_182 0 241 (dk_at dksX7_value_10 7 rfl rfl)
theorem dX7_value_241 : decode cX7_value 241 = .ok (.invokespecial 355, 3) := dk_183 1 99 (dk_at dksX7_value_10 10 rfl rfl)
theorem dX7_value_244 : decode cX7_value 244 = .ok (.astore_n 2, 1) := dk_77 (dk_at dksX7_value_10 13 rfl rfl)
theorem dX7_value_245 : decode cX7_value 245 = .ok (.aload_n 0, 1) := dk_42 (dk_at dksX7_value_10 14 rfl rfl)
theorem dX7_value_246 : decode cX7_value 246 = .ok (.ldc_w 402, 3) := dk_19 1 146 (dk_at dksX7_value_10 15 rfl rfl)
theorem dX7_value_249 : decode cX7_value 249 = .ok (.invokevirtual 302, 3) := dk_182 1 46 (dk_at dksX7_value_10 18 rfl rfl)
theorem dX7_value_252 : decode cX7_value 252 = .ok (.aload_n 2, 1) := dk_44 (dk_at dksX7_value_10 21 rfl rfl)
theorem dX7_value_253 : decode cX7_value 253 = .ok (.areturn, 1) := dk_176 (dk_at dksX7_value_10 22 rfl rfl)
abbrev mX7_test : sd_Y := (yX7_test, cX7_test, 2, some (.object "SofaDig$Test"), none)
abbrev mX7_both : sd_Y := (yX7_both, cX7_both, 2, some (.object "SofaDig$Test"), none)
abbrev mX7_single : sd_Y := (yX7_single, cX7_single, 3, some (.object "SofaDig$Test"), none)
abbrev mX7_sum : sd_Y := (yX7_sum, cX7_sum, 3, some (.object "SofaDig$Sum"), none)
abbrev mX7_product : sd_Y := (yX7_product, cX7_product, 3, some (.object "SofaDig$Sum"), none)
abbrev mX7_value : sd_Y := (yX7_value, cX7_value, 5, some (.object "SofaDig$Sum"), none)
abbrev TRP : Type := (Nat → sd_M (Nat ⊕ Nat)) × (Nat → sd_M (Nat ⊕ Nat)) × (Nat → sd_M (Nat ⊕ Nat)) × (Nat → sd_M (Nat ⊕ Nat)) × (Nat → sd_M (Nat ⊕ Nat)) × (Nat → sd_M (Nat ⊕ Nat))
def HRP (l : Launch) (G : sd_G) (d : Nat) (R : TRP) : Prop := (∀ (a0 : Nat) (h : sd_H) (ρ : Nat ⊕ Nat) (cT : Nat × Nat) (h2 : sd_H), R.1 a0 h = some (ρ, cT, h2) → sd_Met mX7_test ((l, G), (d + 10, 45 * d + 282), [.ref a0], ((sd_ox sd_oR) ρ, h2), cT) h) ∧
  (∀ (a0 : Nat) (h : sd_H) (ρ : Nat ⊕ Nat) (cT : Nat × Nat) (h2 : sd_H), R.2.1 a0 h = some (ρ, cT, h2) → sd_Met mX7_both ((l, G), (d + 10, 45 * d + 282), [.ref a0], ((sd_ox sd_oR) ρ, h2), cT) h) ∧
  (∀ (a0 : Nat) (h : sd_H) (ρ : Nat ⊕ Nat) (cT : Nat × Nat) (h2 : sd_H), R.2.2.1 a0 h = some (ρ, cT, h2) → sd_Met mX7_single ((l, G), (d + 10, 45 * d + 282), [.ref a0], ((sd_ox sd_oR) ρ, h2), cT) h) ∧
  (∀ (a0 : Nat) (h : sd_H) (ρ : Nat ⊕ Nat) (cT : Nat × Nat) (h2 : sd_H), R.2.2.2.1 a0 h = some (ρ, cT, h2) → sd_Met mX7_sum ((l, G), (d + 10, 45 * d + 282), [.ref a0], ((sd_ox sd_oR) ρ, h2), cT) h) ∧
  (∀ (a0 : Nat) (h : sd_H) (ρ : Nat ⊕ Nat) (cT : Nat × Nat) (h2 : sd_H), R.2.2.2.2.1 a0 h = some (ρ, cT, h2) → sd_Met mX7_product ((l, G), (d + 10, 45 * d + 282), [.ref a0], ((sd_ox sd_oR) ρ, h2), cT) h) ∧
  (∀ (a0 : Nat) (h : sd_H) (ρ : Nat ⊕ Nat) (cT : Nat × Nat) (h2 : sd_H), R.2.2.2.2.2 a0 h = some (ρ, cT, h2) → sd_Met mX7_value ((l, G), (d + 10, 45 * d + 282), [.ref a0], ((sd_ox sd_oR) ρ, h2), cT) h)
theorem q1864 : (Jvm.Cond.methodLink "SofaDig$Reader" (241 : Nat) ({ cls := "SofaDig$Reader", name := "sum", desc := "()LSofaDig$Sum;" } : Jvm.MethodName)) ∈ lw_all := lw_g (lw_at lw_m8 69 rfl) rfl
theorem q1866 : (Jvm.Cond.instanceMethod ({ cls := "SofaDig$Reader", name := "sum", desc := "()LSofaDig$Sum;" } : Jvm.MethodName)) ∈ lw_all := lw_g (lw_at lw_m8 71 rfl) rfl
theorem q1867 : (Jvm.Cond.code ({ cls := "SofaDig$Reader", name := "sum", desc := "()LSofaDig$Sum;" } : Jvm.MethodName) prog_18_method_26_code (3 : Nat) (Option.some (Jvm.ClassFile.FieldType.object "SofaDig$Sum"))) ∈ lw_all := lw_g (lw_at lw_m8 72 rfl) rfl
theorem q1868 : (Jvm.Cond.methodLink "SofaDig$Reader" (337 : Nat) ({ cls := "SofaDig$Reader", name := "product", desc := "()LSofaDig$Sum;" } : Jvm.MethodName)) ∈ lw_all := lw_g (lw_at lw_m8 73 rfl) rfl
theorem q1870 : (Jvm.Cond.instanceMethod ({ cls := "SofaDig$Reader", name := "product", desc := "()LSofaDig$Sum;" } : Jvm.MethodName)) ∈ lw_all := lw_g (lw_at lw_m8 75 rfl) rfl
theorem q1871 : (Jvm.Cond.code ({ cls := "SofaDig$Reader", name := "product", desc := "()LSofaDig$Sum;" } : Jvm.MethodName) prog_18_method_27_code (3 : Nat) (Option.some (Jvm.ClassFile.FieldType.object "SofaDig$Sum"))) ∈ lw_all := lw_g (lw_at lw_m8 76 rfl) rfl
theorem q1872 : (Jvm.Cond.methodLink "SofaDig$Reader" (358 : Nat) ({ cls := "SofaDig$Reader", name := "value", desc := "()LSofaDig$Sum;" } : Jvm.MethodName)) ∈ lw_all := lw_g (lw_at lw_m8 77 rfl) rfl
theorem q1874 : (Jvm.Cond.instanceMethod ({ cls := "SofaDig$Reader", name := "value", desc := "()LSofaDig$Sum;" } : Jvm.MethodName)) ∈ lw_all := lw_g (lw_at lw_m8 79 rfl) rfl
theorem q1875 : (Jvm.Cond.code ({ cls := "SofaDig$Reader", name := "value", desc := "()LSofaDig$Sum;" } : Jvm.MethodName) prog_18_method_29_code (5 : Nat) (Option.some (Jvm.ClassFile.FieldType.object "SofaDig$Sum"))) ∈ lw_all := lw_g (lw_at lw_m8 80 rfl) rfl
theorem q1876 : (Jvm.Cond.classLink "SofaDig$Reader" (377 : Nat) "SofaDig$Plain") ∈ lw_all := lw_g (lw_at lw_m8 81 rfl) rfl
theorem q1877 : (Jvm.Cond.instantiable "SofaDig$Plain" (1 : Nat)) ∈ lw_all := lw_g (lw_at lw_m8 82 rfl) rfl
theorem q1878 : (Jvm.Cond.methodLink "SofaDig$Reader" (379 : Nat) ({ cls := "SofaDig$Plain", name := "<init>", desc := "(I)V" } : Jvm.MethodName)) ∈ lw_all := lw_g (lw_at lw_m8 83 rfl) rfl
theorem q1879 : (Jvm.Cond.instanceMethod ({ cls := "SofaDig$Plain", name := "<init>", desc := "(I)V" } : Jvm.MethodName)) ∈ lw_all := lw_g (lw_at lw_m8 84 rfl) rfl
theorem q1889 : (Jvm.Cond.fieldLinkNest "SofaDig$Reader" (380 : Nat) "SofaDig$What" "ALL" "[LSofaDig$What;" "SofaDig") ∈ lw_tbl := lw_at lw_m8 94 rfl
theorem q1891 : (Jvm.Cond.classLink "SofaDig$Reader" (386 : Nat) "SofaDig$Asked") ∈ lw_all := lw_g (lw_at lw_m8 96 rfl) rfl
theorem q1892 : (Jvm.Cond.instantiable "SofaDig$Asked" (2 : Nat)) ∈ lw_all := lw_g (lw_at lw_m8 97 rfl) rfl
theorem q1893 : (Jvm.Cond.methodLink "SofaDig$Reader" (391 : Nat) ({ cls := "SofaDig$Reader", name := "which", desc := "(LSofaDig$Kind;)I" } : Jvm.MethodName)) ∈ lw_all := lw_g (lw_at lw_m8 98 rfl) rfl
theorem q1895 : (Jvm.Cond.instanceMethod ({ cls := "SofaDig$Reader", name := "which", desc := "(LSofaDig$Kind;)I" } : Jvm.MethodName)) ∈ lw_all := lw_g (lw_at lw_m8 100 rfl) rfl
theorem q1899 : (Jvm.Cond.methodLink "SofaDig$Reader" (395 : Nat) ({ cls := "SofaDig$Asked", name := "<init>", desc := "(LSofaDig$What;I)V" } : Jvm.MethodName)) ∈ lw_all := lw_g (lw_at lw_m8 104 rfl) rfl
theorem q1900 : (Jvm.Cond.instanceMethod ({ cls := "SofaDig$Asked", name := "<init>", desc := "(LSofaDig$What;I)V" } : Jvm.MethodName)) ∈ lw_all := lw_g (lw_at lw_m8 105 rfl) rfl
theorem q1912 : (Jvm.Cond.methodLink "SofaDig$Reader" (290 : Nat) ({ cls := "SofaDig$Reader", name := "deeper", desc := "(Ljava/lang/String;)V" } : Jvm.MethodName)) ∈ lw_all := lw_g (lw_at lw_m8 117 rfl) rfl
theorem q1914 : (Jvm.Cond.instanceMethod ({ cls := "SofaDig$Reader", name := "deeper", desc := "(Ljava/lang/String;)V" } : Jvm.MethodName)) ∈ lw_all := lw_g (lw_at lw_m8 119 rfl) rfl
theorem q1917 : (Jvm.Cond.methodLink "SofaDig$Reader" (302 : Nat) ({ cls := "SofaDig$Reader", name := "close", desc := "(Ljava/lang/String;)V" } : Jvm.MethodName)) ∈ lw_all := lw_g (lw_at lw_m8 122 rfl) rfl
theorem q1919 : (Jvm.Cond.instanceMethod ({ cls := "SofaDig$Reader", name := "close", desc := "(Ljava/lang/String;)V" } : Jvm.MethodName)) ∈ lw_all := lw_g (lw_at lw_m8 124 rfl) rfl
theorem q1921 : (Jvm.Cond.classLink "SofaDig$Reader" (404 : Nat) "SofaDig$Height") ∈ lw_all := lw_g (lw_at lw_m8 126 rfl) rfl
theorem q1922 : (Jvm.Cond.instantiable "SofaDig$Height" (1 : Nat)) ∈ lw_all := lw_g (lw_at lw_m8 127 rfl) rfl
theorem q1923 : (Jvm.Cond.methodLink "SofaDig$Reader" (406 : Nat) ({ cls := "SofaDig$Height", name := "<init>", desc := "(LSofaDig$Sum;)V" } : Jvm.MethodName)) ∈ lw_all := lw_g (lw_at lw_m8 128 rfl) rfl
theorem q1924 : (Jvm.Cond.instanceMethod ({ cls := "SofaDig$Height", name := "<init>", desc := "(LSofaDig$Sum;)V" } : Jvm.MethodName)) ∈ lw_all := lw_g (lw_at lw_m8 129 rfl) rfl
theorem q1932 : (Jvm.Cond.classLink "SofaDig$Reader" (407 : Nat) "SofaDig$Turned") ∈ lw_all := lw_g (lw_at lw_m8 137 rfl) rfl
theorem q1933 : (Jvm.Cond.instantiable "SofaDig$Turned" (1 : Nat)) ∈ lw_all := lw_g (lw_at lw_m8 138 rfl) rfl
theorem q1934 : (Jvm.Cond.methodLink "SofaDig$Reader" (409 : Nat) ({ cls := "SofaDig$Turned", name := "<init>", desc := "(LSofaDig$Sum;)V" } : Jvm.MethodName)) ∈ lw_all := lw_g (lw_at lw_m8 139 rfl) rfl
theorem q1935 : (Jvm.Cond.instanceMethod ({ cls := "SofaDig$Turned", name := "<init>", desc := "(LSofaDig$Sum;)V" } : Jvm.MethodName)) ∈ lw_all := lw_g (lw_at lw_m8 140 rfl) rfl
theorem q1942 : (Jvm.Cond.fieldLink "SofaDig$Reader" (410 : Nat) "SofaDig$Sign" "LEAST" "LSofaDig$Sign;") ∈ lw_all := lw_g (lw_at lw_m8 147 rfl) rfl
theorem q1944 : (Jvm.Cond.fieldLink "SofaDig$Reader" (414 : Nat) "SofaDig$Sign" "MOST_OF" "LSofaDig$Sign;") ∈ lw_all := lw_g (lw_at lw_m8 149 rfl) rfl
theorem q1946 : (Jvm.Cond.classLink "SofaDig$Reader" (353 : Nat) "SofaDig$Joined") ∈ lw_all := lw_g (lw_at lw_m8 151 rfl) rfl
theorem q1947 : (Jvm.Cond.instantiable "SofaDig$Joined" (3 : Nat)) ∈ lw_all := lw_g (lw_at lw_m8 152 rfl) rfl
theorem q1948 : (Jvm.Cond.methodLink "SofaDig$Reader" (355 : Nat) ({ cls := "SofaDig$Joined", name := "<init>", desc := "(LSofaDig$Sign;LSofaDig$Sum;LSofaDig$Sum;)V" } : Jvm.MethodName)) ∈ lw_all := lw_g (lw_at lw_m8 153 rfl) rfl
theorem q1949 : (Jvm.Cond.instanceMethod ({ cls := "SofaDig$Joined", name := "<init>", desc := "(LSofaDig$Sign;LSofaDig$Sum;LSofaDig$Sum;)V" } : Jvm.MethodName)) ∈ lw_all := lw_g (lw_at lw_m8 154 rfl) rfl
theorem q1964 : (Jvm.Cond.fieldLink "SofaDig$Reader" (365 : Nat) "SofaDig$Sign" "TIMES" "LSofaDig$Sign;") ∈ lw_all := lw_g (lw_at lw_m8 169 rfl) rfl
theorem q1966 : (Jvm.Cond.fieldLink "SofaDig$Reader" (368 : Nat) "SofaDig$Sign" "PARTED" "LSofaDig$Sign;") ∈ lw_all := lw_g (lw_at lw_m8 171 rfl) rfl
theorem q1969 : (Jvm.Cond.fieldLink "SofaDig$Reader" (344 : Nat) "SofaDig$Sign" "PLUS" "LSofaDig$Sign;") ∈ lw_all := lw_g (lw_at lw_m8 174 rfl) rfl
theorem q1971 : (Jvm.Cond.fieldLink "SofaDig$Reader" (350 : Nat) "SofaDig$Sign" "MINUS" "LSofaDig$Sign;") ∈ lw_all := lw_g (lw_at lw_m8 176 rfl) rfl
theorem q1976 : (Jvm.Cond.methodLink "SofaDig$Reader" (249 : Nat) ({ cls := "SofaDig$Reader", name := "test", desc := "()LSofaDig$Test;" } : Jvm.MethodName)) ∈ lw_all := lw_g (lw_at lw_m8 181 rfl) rfl
theorem q1978 : (Jvm.Cond.instanceMethod ({ cls := "SofaDig$Reader", name := "test", desc := "()LSofaDig$Test;" } : Jvm.MethodName)) ∈ lw_all := lw_g (lw_at lw_m8 183 rfl) rfl
theorem q1979 : (Jvm.Cond.code ({ cls := "SofaDig$Reader", name := "test", desc := "()LSofaDig$Test;" } : Jvm.MethodName) prog_18_method_23_code (2 : Nat) (Option.some (Jvm.ClassFile.FieldType.object "SofaDig$Test"))) ∈ lw_all := lw_g (lw_at lw_m8 184 rfl) rfl
theorem q1980 : (Jvm.Cond.classLink "SofaDig$Reader" (270 : Nat) "SofaDig$Several") ∈ lw_all := lw_g (lw_at lw_m8 185 rfl) rfl
theorem q1981 : (Jvm.Cond.instantiable "SofaDig$Several" (2 : Nat)) ∈ lw_all := lw_g (lw_at lw_m8 186 rfl) rfl
theorem q1982 : (Jvm.Cond.methodLink "SofaDig$Reader" (272 : Nat) ({ cls := "SofaDig$Several", name := "<init>", desc := "(Z)V" } : Jvm.MethodName)) ∈ lw_all := lw_g (lw_at lw_m8 187 rfl) rfl
theorem q1983 : (Jvm.Cond.instanceMethod ({ cls := "SofaDig$Several", name := "<init>", desc := "(Z)V" } : Jvm.MethodName)) ∈ lw_all := lw_g (lw_at lw_m8 188 rfl) rfl
theorem q1990 : (Jvm.Cond.fieldLinkNest "SofaDig$Reader" (275 : Nat) "SofaDig$Several" "tests" "Ljava/util/ArrayList;" "SofaDig") ∈ lw_tbl := lw_at lw_m8 195 rfl
theorem q1996 : (Jvm.Cond.methodLink "SofaDig$Reader" (278 : Nat) ({ cls := "SofaDig$Reader", name := "both", desc := "()LSofaDig$Test;" } : Jvm.MethodName)) ∈ lw_all := lw_g (lw_at lw_m8 201 rfl) rfl
theorem q1998 : (Jvm.Cond.instanceMethod ({ cls := "SofaDig$Reader", name := "both", desc := "()LSofaDig$Test;" } : Jvm.MethodName)) ∈ lw_all := lw_g (lw_at lw_m8 203 rfl) rfl
theorem q1999 : (Jvm.Cond.code ({ cls := "SofaDig$Reader", name := "both", desc := "()LSofaDig$Test;" } : Jvm.MethodName) prog_18_method_24_code (2 : Nat) (Option.some (Jvm.ClassFile.FieldType.object "SofaDig$Test"))) ∈ lw_all := lw_g (lw_at lw_m8 204 rfl) rfl
theorem q2000 : (Jvm.Cond.methodLink "SofaDig$Reader" (283 : Nat) ({ cls := "SofaDig$Reader", name := "single", desc := "()LSofaDig$Test;" } : Jvm.MethodName)) ∈ lw_all := lw_g (lw_at lw_m8 205 rfl) rfl
theorem q2002 : (Jvm.Cond.instanceMethod ({ cls := "SofaDig$Reader", name := "single", desc := "()LSofaDig$Test;" } : Jvm.MethodName)) ∈ lw_all := lw_g (lw_at lw_m8 207 rfl) rfl
theorem q2003 : (Jvm.Cond.code ({ cls := "SofaDig$Reader", name := "single", desc := "()LSofaDig$Test;" } : Jvm.MethodName) prog_18_method_25_code (3 : Nat) (Option.some (Jvm.ClassFile.FieldType.object "SofaDig$Test"))) ∈ lw_all := lw_g (lw_at lw_m8 208 rfl) rfl
theorem q2005 : (Jvm.Cond.classLink "SofaDig$Reader" (293 : Nat) "SofaDig$Denied") ∈ lw_all := lw_g (lw_at lw_m8 210 rfl) rfl
theorem q2006 : (Jvm.Cond.instantiable "SofaDig$Denied" (1 : Nat)) ∈ lw_all := lw_g (lw_at lw_m8 211 rfl) rfl
theorem q2007 : (Jvm.Cond.methodLink "SofaDig$Reader" (295 : Nat) ({ cls := "SofaDig$Denied", name := "<init>", desc := "(LSofaDig$Test;)V" } : Jvm.MethodName)) ∈ lw_all := lw_g (lw_at lw_m8 212 rfl) rfl
theorem q2008 : (Jvm.Cond.instanceMethod ({ cls := "SofaDig$Denied", name := "<init>", desc := "(LSofaDig$Test;)V" } : Jvm.MethodName)) ∈ lw_all := lw_g (lw_at lw_m8 213 rfl) rfl
theorem q2018 : (Jvm.Cond.classLink "SofaDig$Reader" (307 : Nat) "SofaDig$Seen") ∈ lw_all := lw_g (lw_at lw_m8 223 rfl) rfl
theorem q2019 : (Jvm.Cond.instantiable "SofaDig$Seen" (1 : Nat)) ∈ lw_all := lw_g (lw_at lw_m8 224 rfl) rfl
theorem q2020 : (Jvm.Cond.methodLink "SofaDig$Reader" (309 : Nat) ({ cls := "SofaDig$Seen", name := "<init>", desc := "(I)V" } : Jvm.MethodName)) ∈ lw_all := lw_g (lw_at lw_m8 225 rfl) rfl
theorem q2021 : (Jvm.Cond.instanceMethod ({ cls := "SofaDig$Seen", name := "<init>", desc := "(I)V" } : Jvm.MethodName)) ∈ lw_all := lw_g (lw_at lw_m8 226 rfl) rfl
theorem q2029 : (Jvm.Cond.classLink "SofaDig$Reader" (312 : Nat) "SofaDig$Sure") ∈ lw_all := lw_g (lw_at lw_m8 234 rfl) rfl
theorem q2030 : (Jvm.Cond.instantiable "SofaDig$Sure" (1 : Nat)) ∈ lw_all := lw_g (lw_at lw_m8 235 rfl) rfl
theorem q2031 : (Jvm.Cond.methodLink "SofaDig$Reader" (314 : Nat) ({ cls := "SofaDig$Sure", name := "<init>", desc := "(LSofaDig$Sum;)V" } : Jvm.MethodName)) ∈ lw_all := lw_g (lw_at lw_m8 236 rfl) rfl
theorem q2032 : (Jvm.Cond.instanceMethod ({ cls := "SofaDig$Sure", name := "<init>", desc := "(LSofaDig$Sum;)V" } : Jvm.MethodName)) ∈ lw_all := lw_g (lw_at lw_m8 237 rfl) rfl
theorem q2039 : (Jvm.Cond.fieldLink "SofaDig$Reader" (317 : Nat) "SofaDig$Sort" "SYMBOL" "LSofaDig$Sort;") ∈ lw_all := lw_g (lw_at lw_m9 4 rfl) rfl
theorem q2041 : (Jvm.Cond.methodLink "SofaDig$Reader" (322 : Nat) ({ cls := "java/lang/String", name := "charAt", desc := "(I)C" } : Jvm.MethodName)) ∈ lw_all := lw_g (lw_at lw_m9 6 rfl) rfl
theorem q2042 : (Jvm.Cond.methodLink "SofaDig$Reader" (328 : Nat) ({ cls := "java/lang/String", name := "indexOf", desc := "(I)I" } : Jvm.MethodName)) ∈ lw_all := lw_g (lw_at lw_m9 7 rfl) rfl
theorem q2043 : (Jvm.Cond.classLink "SofaDig$Reader" (332 : Nat) "SofaDig$Compared") ∈ lw_all := lw_g (lw_at lw_m9 8 rfl) rfl
theorem q2044 : (Jvm.Cond.instantiable "SofaDig$Compared" (3 : Nat)) ∈ lw_all := lw_g (lw_at lw_m9 9 rfl) rfl
theorem q2045 : (Jvm.Cond.methodLink "SofaDig$Reader" (334 : Nat) ({ cls := "SofaDig$Compared", name := "<init>", desc := "(Ljava/lang/String;LSofaDig$Sum;LSofaDig$Sum;)V" } : Jvm.MethodName)) ∈ lw_all := lw_g (lw_at lw_m9 10 rfl) rfl
theorem q2046 : (Jvm.Cond.instanceMethod ({ cls := "SofaDig$Compared", name := "<init>", desc := "(Ljava/lang/String;LSofaDig$Sum;LSofaDig$Sum;)V" } : Jvm.MethodName)) ∈ lw_all := lw_g (lw_at lw_m9 11 rfl) rfl
theorem q3522 : (Jvm.Cond.fieldLinkNest "SofaDig$Reader" (385 : Nat) "SofaDig$What" "word" "Ljava/lang/String;" "SofaDig") ∈ lw_tbl := lw_at lw_m15 47 rfl
theorem q3523 : (Jvm.Cond.fieldLinkNest "SofaDig$Reader" (388 : Nat) "SofaDig$What" "kind" "LSofaDig$Kind;" "SofaDig") ∈ lw_tbl := lw_at lw_m15 48 rfl
theorem q3524 : (Jvm.Cond.fieldLinkNest "SofaDig$Reader" (413 : Nat) "SofaDig$Sign" "word" "Ljava/lang/String;" "SofaDig") ∈ lw_tbl := lw_at lw_m15 49 rfl
/-! SofaDig$Reader.test()LSofaDig$Test; -/
theorem fnX7_270 : sd_Fn "SofaDig$Reader" 270 18 2 [.int 0, .null] := ⟨(RX20, TX20, 2), tyX20, rfl, rfl, in_X20, q1980, q1981, q172, tyX20_ok, fun j hj => by revert j; decide⟩
theorem fdX7_275_18 : sd_Fd "SofaDig$Reader" 275 18 1 := ⟨(RX20, TX20, 2), "SofaDig$Several", rfl, by decide, rfl, in_X20, Or.inl rfl, Or.inr ⟨_, q1990⟩⟩
def fX7_test_b9 (G : sd_G) (R : TRP) (k9 : Nat × Nat → sd_M (Nat ⊕ Nat)) (w0 : Nat) (w1 : Nat) : sd_M (Nat ⊕ Nat) :=
  sd_bnd (sd_getR G 18 1 w1) fun v2 =>
  sd_bnd (sd_isC G 6 w0) fun _ =>
  sd_bx (R.2.1 w0) (fun e14 =>
    sd_ret (.inr e14)) fun r3 =>
  sd_bnd (sd_isC G 41 v2) fun _ =>
  sd_bnd (fJ2_add G v2 r3) fun r4 =>
  sd_bnd (sd_isC G 6 w0) fun _ =>
  sd_bnd (fX7_takeIf G w0 (sd_ad G 132)) fun r5 =>
  if r5 = 0 then (
    sd_ret (.inl w1))
  else (
    k9 (w0, w1))
set_option maxHeartbeats 4000000 in
theorem sX7_test_b9 (l : Launch) (hl : l.stackTraces = false) (G : sd_G) (d : Nat) (R : TRP) (HR : HRP l G d R) (a0 : Nat) (ρ : Nat ⊕ Nat) (h2 : sd_H) (cT : Nat × Nat) (k9 : Nat × Nat → sd_M (Nat ⊕ Nat)) (Hk9 : ∀ (q : Nat × Nat) (h : sd_H) (c : Nat × Nat), k9 q h = some (ρ, c, h2) → sd_J mX7_test ((l, G), (d + 1 + 10, 45 * (d + 1) + 282), [.ref a0], ((sd_ox sd_oR) ρ, h2), cT) 9 [(0, .ref q.1), (1, .ref q.2)] [] h c) (w0 : Nat) (w1 : Nat) (h : sd_H) (c : Nat × Nat) (hf : fX7_test_b9 G R k9 w0 w1 h = some (ρ, c, h2)) : sd_J mX7_test ((l, G), (d + 1 + 10, 45 * (d + 1) + 282), [.ref a0], ((sd_ox sd_oR) ρ, h2), cT) 9 [(0, .ref w0), (1, .ref w1)] [] h c := by
  unfold fX7_test_b9 at hf
  refine sj_aload_n 1 dX7_test_9 rfl ?_
  refine sj_getR fdX7_275_18 hf dX7_test_10 (fun v2 hf => ?_)
  refine sj_aload_n 0 dX7_test_13 rfl ?_
  obtain ⟨fs14, he14, hf⟩ := sd_isC_some hf
  refine sj_xR (rest := [.ref v2]) (fun _ _ _ e => sj_runV (n := 0) (As := []) (rest := [.ref v2]) (HR.2.1 w0 h _ _ _ e) he14 rfl rfl rfl rfl q1996 q1998 qs30 q134 q1999 (by decide +kernel) rfl rfl ⟨by show d + 10 + 1 ≤ d + 1 + 10; omega, by show 8 + (2 + 11) + (45 * d + 282) ≤ 45 * (d + 1) + 282; omega⟩ rfl (Nat.le_of_ble_eq_true rfl) dX7_test_14) hf (fun e14 h c hf => ?_) (fun r3 h c hf => ?_)
  · exact sj_outX hf rfl (by intro x hx; cases hx)
  obtain ⟨fs17, he17, hf⟩ := sd_isC_some hf
  refine sj_cI (rest := []) (fun _ _ _ e => sj_runV (n := 1) (As := [.ref r3]) (rest := []) (sJ2_add l G v2 r3 h _ _ _ e) he17 rfl rfl rfl rfl q1638 q338 q339 q121 q340 (by decide +kernel) rfl rfl ⟨by show 6 + 1 ≤ d + 1 + 10; omega, by show 8 + (2 + 11) + 131 ≤ 45 * (d + 1) + 282; omega⟩ rfl (Nat.le_of_ble_eq_true rfl) dX7_test_17) hf (fun r4 h c hf => ?_)
  refine sj_pop dX7_test_20 rfl ?_
  refine sj_aload_n 0 dX7_test_21 rfl ?_
  refine sj_ldcSw 32 rfl dX7_test_22 ?_
  obtain ⟨fs25, he25, hf⟩ := sd_isC_some hf
  refine sj_cI (rest := []) (fun _ _ _ e => sj_runV (n := 1) (As := [.ref (sd_ad G 132)]) (rest := []) (sX7_takeIf l G w0 (sd_ad G 132) h _ _ _ e) he25 rfl rfl rfl rfl q987 q989 qs6 q134 q990 (by decide +kernel) rfl rfl ⟨by show 4 + 1 ≤ d + 1 + 10; omega, by show 8 + (3 + 11) + 84 ≤ 45 * (d + 1) + 282; omega⟩ rfl (Nat.le_of_ble_eq_true rfl) dX7_test_25) hf (fun r5 h c hf => ?_)
  refine sj_ifne 9 hf dX7_test_28 (by decide) (fun g28 hf => ?_) (fun g28 hf => ?_)
  · exact sj_loc [0, 1] rfl (Hk9 (w0, w1) _ _ hf)
  · refine sj_aload_n 1 dX7_test_31 rfl ?_
    exact sj_aret (o := (sd_ox sd_oR)) hf rfl rfl rfl (Or.inl ⟨_, rfl⟩) dX7_test_32
theorem sX7_test_b9_loop (l : Launch) (hl : l.stackTraces = false) (G : sd_G) (d : Nat) (R : TRP) (HR : HRP l G d R) (a0 : Nat) (ρ : Nat ⊕ Nat) (h2 : sd_H) (cT : Nat × Nat) (n : Nat) : ∀ (q : Nat × Nat) (h : sd_H) (c : Nat × Nat), sd_loop (fun k s => fX7_test_b9 G R k s.1 s.2) n q h = some (ρ, c, h2) → sd_J mX7_test ((l, G), (d + 1 + 10, 45 * (d + 1) + 282), [.ref a0], ((sd_ox sd_oR) ρ, h2), cT) 9 [(0, .ref q.1), (1, .ref q.2)] [] h c := by
  induction n with
  | zero => intro q h c hf; cases hf
  | succ n ih => intro q h c hf; exact sX7_test_b9 l hl G d R HR a0 ρ h2 cT _ ih _ _ _ _ hf
def fX7_test (G : sd_G) (R : TRP) (a0 : Nat) : sd_M (Nat ⊕ Nat) :=
  sd_bnd (sd_new 18 2 [.int 0, .null]) fun o1 =>
  sd_bnd (fX20_init G o1 0) fun _ =>
  sd_loop (fun k s => fX7_test_b9 G R k s.1 s.2) sd_FU (a0, o1)
set_option maxHeartbeats 4000000 in
theorem sX7_test (l : Launch) (hl : l.stackTraces = false) (G : sd_G) (d : Nat) (R : TRP) (HR : HRP l G d R) (a0 : Nat) (h : sd_H) (ρ : Nat ⊕ Nat) (cT : Nat × Nat) (h2 : sd_H) (hf : fX7_test G R a0 h = some (ρ, cT, h2)) : sd_Met mX7_test ((l, G), (d + 1 + 10, 45 * (d + 1) + 282), [.ref a0], ((sd_ox sd_oR) ρ, h2), cT) h := by
  refine sd_entry (plainFor_of_name rfl) rfl (Nat.le_of_ble_eq_true rfl) ?_
  show sd_J mX7_test ((l, G), (d + 1 + 10, 45 * (d + 1) + 282), [.ref a0], ((sd_ox sd_oR) ρ, h2), cT) 0 [(0, .ref a0)] [] h cT
  unfold fX7_test at hf
  refine sj_new fnX7_270 hf dX7_test_0 (fun o1 h c hf => ?_)
  refine sj_dup dX7_test_3 rfl ?_
  refine sj_iconst (v := 0) dX7_test_4 (by decide) ?_
  refine sj_cV (rest := [.ref o1]) (fun _ _ _ e => sj_runI (n := 1) (a := o1) (As := [.int 0]) (rest := [.ref o1]) (sX20_init l G o1 0 h _ _ _ e) rfl rfl q1982 q1983 q172 q1984 rfl (by decide +kernel) rfl rfl (fun _ z => by cases z) ⟨by show 4 + 1 ≤ d + 1 + 10; omega, by show 8 + (2 + 11) + 72 ≤ 45 * (d + 1) + 282; omega⟩ rfl (Nat.le_of_ble_eq_true rfl) dX7_test_5) hf (fun h c hf => ?_)
  refine sj_astore_n [(1, .ref o1), (0, .ref a0)] dX7_test_8 (by decide) rfl ?_
  exact sj_loc [1, 0] rfl (sX7_test_b9_loop l hl G d R HR a0 ρ h2 cT sd_FU (a0, o1) _ _ hf)
/-! SofaDig$Reader.both()LSofaDig$Test; -/
def fX7_both_b9 (G : sd_G) (R : TRP) (k9 : Nat × Nat → sd_M (Nat ⊕ Nat)) (w0 : Nat) (w1 : Nat) : sd_M (Nat ⊕ Nat) :=
  sd_bnd (sd_getR G 18 1 w1) fun v2 =>
  sd_bnd (sd_isC G 6 w0) fun _ =>
  sd_bx (R.2.2.1 w0) (fun e14 =>
    sd_ret (.inr e14)) fun r3 =>
  sd_bnd (sd_isC G 41 v2) fun _ =>
  sd_bnd (fJ2_add G v2 r3) fun r4 =>
  sd_bnd (sd_isC G 6 w0) fun _ =>
  sd_bnd (fX7_takeIf G w0 (sd_ad G 131)) fun r5 =>
  if r5 = 0 then (
    sd_ret (.inl w1))
  else (
    k9 (w0, w1))
set_option maxHeartbeats 4000000 in
theorem sX7_both_b9 (l : Launch) (hl : l.stackTraces = false) (G : sd_G) (d : Nat) (R : TRP) (HR : HRP l G d R) (a0 : Nat) (ρ : Nat ⊕ Nat) (h2 : sd_H) (cT : Nat × Nat) (k9 : Nat × Nat → sd_M (Nat ⊕ Nat)) (Hk9 : ∀ (q : Nat × Nat) (h : sd_H) (c : Nat × Nat), k9 q h = some (ρ, c, h2) → sd_J mX7_both ((l, G), (d + 1 + 10, 45 * (d + 1) + 282), [.ref a0], ((sd_ox sd_oR) ρ, h2), cT) 9 [(0, .ref q.1), (1, .ref q.2)] [] h c) (w0 : Nat) (w1 : Nat) (h : sd_H) (c : Nat × Nat) (hf : fX7_both_b9 G R k9 w0 w1 h = some (ρ, c, h2)) : sd_J mX7_both ((l, G), (d + 1 + 10, 45 * (d + 1) + 282), [.ref a0], ((sd_ox sd_oR) ρ, h2), cT) 9 [(0, .ref w0), (1, .ref w1)] [] h c := by
  unfold fX7_both_b9 at hf
  refine sj_aload_n 1 dX7_both_9 rfl ?_
  refine sj_getR fdX7_275_18 hf dX7_both_10 (fun v2 hf => ?_)
  refine sj_aload_n 0 dX7_both_13 rfl ?_
  obtain ⟨fs14, he14, hf⟩ := sd_isC_some hf
  refine sj_xR (rest := [.ref v2]) (fun _ _ _ e => sj_runV (n := 0) (As := []) (rest := [.ref v2]) (HR.2.2.1 w0 h _ _ _ e) he14 rfl rfl rfl rfl q2000 q2002 qs31 q134 q2003 (by decide +kernel) rfl rfl ⟨by show d + 10 + 1 ≤ d + 1 + 10; omega, by show 8 + (3 + 11) + (45 * d + 282) ≤ 45 * (d + 1) + 282; omega⟩ rfl (Nat.le_of_ble_eq_true rfl) dX7_both_14) hf (fun e14 h c hf => ?_) (fun r3 h c hf => ?_)
  · exact sj_outX hf rfl (by intro x hx; cases hx)
  obtain ⟨fs17, he17, hf⟩ := sd_isC_some hf
  refine sj_cI (rest := []) (fun _ _ _ e => sj_runV (n := 1) (As := [.ref r3]) (rest := []) (sJ2_add l G v2 r3 h _ _ _ e) he17 rfl rfl rfl rfl q1638 q338 q339 q121 q340 (by decide +kernel) rfl rfl ⟨by show 6 + 1 ≤ d + 1 + 10; omega, by show 8 + (2 + 11) + 131 ≤ 45 * (d + 1) + 282; omega⟩ rfl (Nat.le_of_ble_eq_true rfl) dX7_both_17) hf (fun r4 h c hf => ?_)
  refine sj_pop dX7_both_20 rfl ?_
  refine sj_aload_n 0 dX7_both_21 rfl ?_
  refine sj_ldcSw 31 rfl dX7_both_22 ?_
  obtain ⟨fs25, he25, hf⟩ := sd_isC_some hf
  refine sj_cI (rest := []) (fun _ _ _ e => sj_runV (n := 1) (As := [.ref (sd_ad G 131)]) (rest := []) (sX7_takeIf l G w0 (sd_ad G 131) h _ _ _ e) he25 rfl rfl rfl rfl q987 q989 qs6 q134 q990 (by decide +kernel) rfl rfl ⟨by show 4 + 1 ≤ d + 1 + 10; omega, by show 8 + (3 + 11) + 84 ≤ 45 * (d + 1) + 282; omega⟩ rfl (Nat.le_of_ble_eq_true rfl) dX7_both_25) hf (fun r5 h c hf => ?_)
  refine sj_ifne 9 hf dX7_both_28 (by decide) (fun g28 hf => ?_) (fun g28 hf => ?_)
  · exact sj_loc [0, 1] rfl (Hk9 (w0, w1) _ _ hf)
  · refine sj_aload_n 1 dX7_both_31 rfl ?_
    exact sj_aret (o := (sd_ox sd_oR)) hf rfl rfl rfl (Or.inl ⟨_, rfl⟩) dX7_both_32
theorem sX7_both_b9_loop (l : Launch) (hl : l.stackTraces = false) (G : sd_G) (d : Nat) (R : TRP) (HR : HRP l G d R) (a0 : Nat) (ρ : Nat ⊕ Nat) (h2 : sd_H) (cT : Nat × Nat) (n : Nat) : ∀ (q : Nat × Nat) (h : sd_H) (c : Nat × Nat), sd_loop (fun k s => fX7_both_b9 G R k s.1 s.2) n q h = some (ρ, c, h2) → sd_J mX7_both ((l, G), (d + 1 + 10, 45 * (d + 1) + 282), [.ref a0], ((sd_ox sd_oR) ρ, h2), cT) 9 [(0, .ref q.1), (1, .ref q.2)] [] h c := by
  induction n with
  | zero => intro q h c hf; cases hf
  | succ n ih => intro q h c hf; exact sX7_both_b9 l hl G d R HR a0 ρ h2 cT _ ih _ _ _ _ hf
def fX7_both (G : sd_G) (R : TRP) (a0 : Nat) : sd_M (Nat ⊕ Nat) :=
  sd_bnd (sd_new 18 2 [.int 0, .null]) fun o1 =>
  sd_bnd (fX20_init G o1 1) fun _ =>
  sd_loop (fun k s => fX7_both_b9 G R k s.1 s.2) sd_FU (a0, o1)
set_option maxHeartbeats 4000000 in
theorem sX7_both (l : Launch) (hl : l.stackTraces = false) (G : sd_G) (d : Nat) (R : TRP) (HR : HRP l G d R) (a0 : Nat) (h : sd_H) (ρ : Nat ⊕ Nat) (cT : Nat × Nat) (h2 : sd_H) (hf : fX7_both G R a0 h = some (ρ, cT, h2)) : sd_Met mX7_both ((l, G), (d + 1 + 10, 45 * (d + 1) + 282), [.ref a0], ((sd_ox sd_oR) ρ, h2), cT) h := by
  refine sd_entry (plainFor_of_name rfl) rfl (Nat.le_of_ble_eq_true rfl) ?_
  show sd_J mX7_both ((l, G), (d + 1 + 10, 45 * (d + 1) + 282), [.ref a0], ((sd_ox sd_oR) ρ, h2), cT) 0 [(0, .ref a0)] [] h cT
  unfold fX7_both at hf
  refine sj_new fnX7_270 hf dX7_both_0 (fun o1 h c hf => ?_)
  refine sj_dup dX7_both_3 rfl ?_
  refine sj_iconst (v := 1) dX7_both_4 (by decide) ?_
  refine sj_cV (rest := [.ref o1]) (fun _ _ _ e => sj_runI (n := 1) (a := o1) (As := [.int 1]) (rest := [.ref o1]) (sX20_init l G o1 1 h _ _ _ e) rfl rfl q1982 q1983 q172 q1984 rfl (by decide +kernel) rfl rfl (fun _ z => by cases z) ⟨by show 4 + 1 ≤ d + 1 + 10; omega, by show 8 + (2 + 11) + 72 ≤ 45 * (d + 1) + 282; omega⟩ rfl (Nat.le_of_ble_eq_true rfl) dX7_both_5) hf (fun h c hf => ?_)
  refine sj_astore_n [(1, .ref o1), (0, .ref a0)] dX7_both_8 (by decide) rfl ?_
  exact sj_loc [1, 0] rfl (sX7_both_b9_loop l hl G d R HR a0 ρ h2 cT sd_FU (a0, o1) _ _ hf)
/-! SofaDig$Reader.single()LSofaDig$Test; -/
theorem fnX7_332 : sd_Fn "SofaDig$Reader" 332 22 3 [.null, .null, .null] := ⟨(RX24, TX24, 3), tyX24, rfl, rfl, in_X24, q2043, q2044, q176, tyX24_ok, fun j hj => by revert j; decide⟩
theorem fnX7_312 : sd_Fn "SofaDig$Reader" 312 21 1 [.null] := ⟨(RX23, TX23, 1), tyX23, rfl, rfl, in_X23, q2029, q2030, q175, tyX23_ok, fun j hj => by revert j; decide⟩
theorem fnX7_307 : sd_Fn "SofaDig$Reader" 307 20 1 [.int 0] := ⟨(RX22, TX22, 1), tyX22, rfl, rfl, in_X22, q2018, q2019, q174, tyX22_ok, fun j hj => by revert j; decide⟩
theorem fnX7_293 : sd_Fn "SofaDig$Reader" 293 19 1 [.null] := ⟨(RX21, TX21, 1), tyX21, rfl, rfl, in_X21, q2005, q2006, q173, tyX21_ok, fun j hj => by revert j; decide⟩
def fX7_single (G : sd_G) (R : TRP) (a0 : Nat) : sd_M (Nat ⊕ Nat) :=
  sd_bnd (sd_isC G 6 a0) fun _ =>
  sd_bnd (fX7_now G a0) fun r1 =>
  sd_bnd (sd_isC G 8 r1) fun _ =>
  sd_bnd (fX9_is G r1 (sd_ad G 125)) fun r2 =>
  if r2 = 0 then (
    sd_bnd (sd_isC G 6 a0) fun _ =>
    sd_bnd (fX7_now G a0) fun r3 =>
    sd_bnd (sd_isC G 8 r3) fun _ =>
    sd_bnd (fX9_is G r3 (sd_ad G 126)) fun r4 =>
    if r4 = 0 then (
      sd_bnd (sd_isC G 6 a0) fun _ =>
      sd_bnd (fX7_takeIf G a0 (sd_ad G 128)) fun r5 =>
      if r5 = 0 then (
        sd_bnd (sd_isC G 6 a0) fun _ =>
        sd_bnd (fX7_takeIf G a0 (sd_ad G 129)) fun r6 =>
        if r6 = 0 then (
          sd_bnd (sd_isC G 6 a0) fun _ =>
          sd_bx (R.2.2.2.1 a0) (fun e127 =>
            sd_ret (.inr e127)) fun r7 =>
          sd_bnd (sd_isC G 6 a0) fun _ =>
          sd_bnd (fX7_now G a0) fun r8 =>
          sd_bnd (sd_getR G 8 0 r8) fun v9 =>
          if v9 = (sd_ad G 6) then (
            sd_bnd (sd_getR G 8 1 r8) fun v11 =>
            sd_bnd (sd_isC G 45 v11) fun _ =>
            sd_bnd (fJ14_charAt G v11 0) fun r12 =>
            sd_bnd (sd_isC G 45 (sd_ad G 130)) fun _ =>
            sd_bnd (fJ14_indexOf G (sd_ad G 130) r12) fun r13 =>
            if 0 ≤ r13 then (
              sd_bnd (sd_getI G 6 1 a0) fun v14 =>
              sd_bnd (sd_put 6 1 .int a0 (.int (v14 + 1))) fun _ =>
              sd_bnd (sd_new 22 3 [.null, .null, .null]) fun o15 =>
              sd_bnd (sd_getR G 8 1 r8) fun v16 =>
              sd_bnd (sd_isC G 6 a0) fun _ =>
              sd_bx (R.2.2.2.1 a0) (fun e188 =>
                sd_ret (.inr e188)) fun r17 =>
              sd_bnd (fX24_init G o15 v16 r7 r17) fun _ =>
              sd_ret (.inl o15))
            else (
              sd_bnd (sd_isC G 6 a0) fun _ =>
              sd_bnd (fX7_wrong G a0) fun r18 =>
              sd_bnd (sd_own r18) fun k167 => if k167 = 9 then sd_ret (.inr r18) else sd_fail))
          else (
            sd_bnd (sd_isC G 6 a0) fun _ =>
            sd_bnd (fX7_wrong G a0) fun r10 =>
            sd_bnd (sd_own r10) fun k167 => if k167 = 9 then sd_ret (.inr r10) else sd_fail))
        else (
          sd_bnd (sd_new 21 1 [.null]) fun o19 =>
          sd_bnd (sd_isC G 6 a0) fun _ =>
          sd_bx (R.2.2.2.1 a0) (fun e119 =>
            sd_ret (.inr e119)) fun r20 =>
          sd_bnd (fX23_init G o19 r20) fun _ =>
          sd_ret (.inl o19)))
      else (
        sd_bnd (sd_new 20 1 [.int 0]) fun o21 =>
        sd_bnd (sd_getR G 6 5 a0) fun v22 =>
        sd_bnd (sd_isC G 6 a0) fun _ =>
        sd_bx (fX7_known G a0 v22) (fun e97 =>
          sd_ret (.inr e97)) fun r23 =>
        sd_bnd (fX22_init G o21 r23) fun _ =>
        sd_ret (.inl o21)))
    else (
      sd_bnd (sd_isC G 6 a0) fun _ =>
      sd_bx (fX7_deeper G a0 (sd_ad G 126)) (fun e61 =>
        sd_ret (.inr e61)) fun _ =>
      sd_bnd (sd_isC G 6 a0) fun _ =>
      sd_bx (R.1 a0) (fun e65 =>
        sd_ret (.inr e65)) fun r24 =>
      sd_bnd (sd_isC G 6 a0) fun _ =>
      sd_bx (fX7_close G a0 (sd_ad G 127)) (fun e73 =>
        sd_ret (.inr e73)) fun _ =>
      sd_ret (.inl r24)))
  else (
    sd_bnd (sd_isC G 6 a0) fun _ =>
    sd_bx (fX7_deeper G a0 (sd_ad G 125)) (fun e17 =>
      sd_ret (.inr e17)) fun _ =>
    sd_bnd (sd_new 19 1 [.null]) fun o25 =>
    sd_bnd (sd_isC G 6 a0) fun _ =>
    sd_bx (R.2.2.1 a0) (fun e25 =>
      sd_ret (.inr e25)) fun r26 =>
    sd_bnd (fX21_init G o25 r26) fun _ =>
    sd_bnd (sd_getI G 6 2 a0) fun v27 =>
    sd_bnd (sd_put 6 2 .int a0 (.int (v27 - 1))) fun _ =>
    sd_ret (.inl o25))
set_option maxHeartbeats 4000000 in
theorem sX7_single (l : Launch) (hl : l.stackTraces = false) (G : sd_G) (d : Nat) (R : TRP) (HR : HRP l G d R) (a0 : Nat) (h : sd_H) (ρ : Nat ⊕ Nat) (cT : Nat × Nat) (h2 : sd_H) (hf : fX7_single G R a0 h = some (ρ, cT, h2)) : sd_Met mX7_single ((l, G), (d + 1 + 10, 45 * (d + 1) + 282), [.ref a0], ((sd_ox sd_oR) ρ, h2), cT) h := by
  refine sd_entry (plainFor_of_name rfl) rfl (Nat.le_of_ble_eq_true rfl) ?_
  show sd_J mX7_single ((l, G), (d + 1 + 10, 45 * (d + 1) + 282), [.ref a0], ((sd_ox sd_oR) ρ, h2), cT) 0 [(0, .ref a0)] [] h cT
  unfold fX7_single at hf
  refine sj_aload_n 0 dX7_single_0 rfl ?_
  obtain ⟨fs1, he1, hf⟩ := sd_isC_some hf
  refine sj_cR (rest := []) (fun _ _ _ e => sj_runV (n := 0) (As := []) (rest := []) (sX7_now l G a0 h _ _ _ e) he1 rfl rfl rfl rfl q991 q993 qs7 q134 q994 (by decide +kernel) rfl rfl ⟨by show 3 + 1 ≤ d + 1 + 10; omega, by show 8 + (1 + 11) + 64 ≤ 45 * (d + 1) + 282; omega⟩ rfl (Nat.le_of_ble_eq_true rfl) dX7_single_1) hf (fun r1 h c hf => ?_)
  refine sj_ldcSw 25 rfl dX7_single_4 ?_
  obtain ⟨fs7, he7, hf⟩ := sd_isC_some hf
  refine sj_cI (rest := []) (fun _ _ _ e => sj_runV (n := 1) (As := [.ref (sd_ad G 125)]) (rest := []) (sX9_is l G r1 (sd_ad G 125) h _ _ _ e) he7 rfl rfl rfl rfl q1014 q1015 q1016 q136 q1017 (by decide +kernel) rfl rfl ⟨by show 2 + 1 ≤ d + 1 + 10; omega, by show 8 + (2 + 11) + 44 ≤ 45 * (d + 1) + 282; omega⟩ rfl (Nat.le_of_ble_eq_true rfl) dX7_single_7) hf (fun r2 h c hf => ?_)
  refine sj_ifeq 44 hf dX7_single_10 (by decide) (fun g10 hf => ?_) (fun g10 hf => ?_)
  · refine sj_aload_n 0 dX7_single_44 rfl ?_
    obtain ⟨fs45, he45, hf⟩ := sd_isC_some hf
    refine sj_cR (rest := []) (fun _ _ _ e => sj_runV (n := 0) (As := []) (rest := []) (sX7_now l G a0 h _ _ _ e) he45 rfl rfl rfl rfl q991 q993 qs7 q134 q994 (by decide +kernel) rfl rfl ⟨by show 3 + 1 ≤ d + 1 + 10; omega, by show 8 + (1 + 11) + 64 ≤ 45 * (d + 1) + 282; omega⟩ rfl (Nat.le_of_ble_eq_true rfl) dX7_single_45) hf (fun r3 h c hf => ?_)
    refine sj_ldcSw 26 rfl dX7_single_48 ?_
    obtain ⟨fs51, he51, hf⟩ := sd_isC_some hf
    refine sj_cI (rest := []) (fun _ _ _ e => sj_runV (n := 1) (As := [.ref (sd_ad G 126)]) (rest := []) (sX9_is l G r3 (sd_ad G 126) h _ _ _ e) he51 rfl rfl rfl rfl q1014 q1015 q1016 q136 q1017 (by decide +kernel) rfl rfl ⟨by show 2 + 1 ≤ d + 1 + 10; omega, by show 8 + (2 + 11) + 44 ≤ 45 * (d + 1) + 282; omega⟩ rfl (Nat.le_of_ble_eq_true rfl) dX7_single_51) hf (fun r4 h c hf => ?_)
    refine sj_ifeq 78 hf dX7_single_54 (by decide) (fun g54 hf => ?_) (fun g54 hf => ?_)
    · refine sj_aload_n 0 dX7_single_78 rfl ?_
      refine sj_ldcSw 28 rfl dX7_single_79 ?_
      obtain ⟨fs82, he82, hf⟩ := sd_isC_some hf
      refine sj_cI (rest := []) (fun _ _ _ e => sj_runV (n := 1) (As := [.ref (sd_ad G 128)]) (rest := []) (sX7_takeIf l G a0 (sd_ad G 128) h _ _ _ e) he82 rfl rfl rfl rfl q987 q989 qs6 q134 q990 (by decide +kernel) rfl rfl ⟨by show 4 + 1 ≤ d + 1 + 10; omega, by show 8 + (3 + 11) + 84 ≤ 45 * (d + 1) + 282; omega⟩ rfl (Nat.le_of_ble_eq_true rfl) dX7_single_82) hf (fun r5 h c hf => ?_)
      refine sj_ifeq 104 hf dX7_single_85 (by decide) (fun g85 hf => ?_) (fun g85 hf => ?_)
      · refine sj_aload_n 0 dX7_single_104 rfl ?_
        refine sj_ldcSw 29 rfl dX7_single_105 ?_
        obtain ⟨fs108, he108, hf⟩ := sd_isC_some hf
        refine sj_cI (rest := []) (fun _ _ _ e => sj_runV (n := 1) (As := [.ref (sd_ad G 129)]) (rest := []) (sX7_takeIf l G a0 (sd_ad G 129) h _ _ _ e) he108 rfl rfl rfl rfl q987 q989 qs6 q134 q990 (by decide +kernel) rfl rfl ⟨by show 4 + 1 ≤ d + 1 + 10; omega, by show 8 + (3 + 11) + 84 ≤ 45 * (d + 1) + 282; omega⟩ rfl (Nat.le_of_ble_eq_true rfl) dX7_single_108) hf (fun r6 h c hf => ?_)
        refine sj_ifeq 126 hf dX7_single_111 (by decide) (fun g111 hf => ?_) (fun g111 hf => ?_)
        · refine sj_aload_n 0 dX7_single_126 rfl ?_
          obtain ⟨fs127, he127, hf⟩ := sd_isC_some hf
          refine sj_xR (rest := []) (fun _ _ _ e => sj_runV (n := 0) (As := []) (rest := []) (HR.2.2.2.1 a0 h _ _ _ e) he127 rfl rfl rfl rfl q1864 q1866 qs23 q134 q1867 (by decide +kernel) rfl rfl ⟨by show d + 10 + 1 ≤ d + 1 + 10; omega, by show 8 + (3 + 11) + (45 * d + 282) ≤ 45 * (d + 1) + 282; omega⟩ rfl (Nat.le_of_ble_eq_true rfl) dX7_single_127) hf (fun e127 h c hf => ?_) (fun r7 h c hf => ?_)
          · exact sj_outX hf rfl (by intro x hx; cases hx)
          refine sj_astore_n [(1, .ref r7), (0, .ref a0)] dX7_single_130 (by decide) rfl ?_
          refine sj_aload_n 1 dX7_single_131 rfl ?_
          obtain ⟨fs132, he132, hf⟩ := sd_isC_some hf
          refine sj_cR (rest := []) (fun _ _ _ e => sj_runV (n := 0) (As := []) (rest := []) (sX7_now l G a0 h _ _ _ e) he132 rfl rfl rfl rfl q991 q993 qs7 q134 q994 (by decide +kernel) rfl rfl ⟨by show 3 + 1 ≤ d + 1 + 10; omega, by show 8 + (1 + 11) + 64 ≤ 45 * (d + 1) + 282; omega⟩ rfl (Nat.le_of_ble_eq_true rfl) dX7_single_132) hf (fun r8 h c hf => ?_)
          refine sj_astore_n [(2, .ref r8), (1, .ref r7), (0, .ref a0)] dX7_single_135 (by decide) rfl ?_
          refine sj_aload_n 0 dX7_single_136 rfl ?_
          refine sj_getR fdX7_62_8 hf dX7_single_137 (fun v9 hf => ?_)
          refine sj_gets (v := .ref (sd_ad G 6)) 13 rfl rfl ⟨Or.inl q2039, rfl⟩ dX7_single_140 ?_
          refine sj_acneR 163 hf dX7_single_143 (by decide) (fun g143 hf => ?_) (fun g143 hf => ?_)
          · refine sj_aload_n 2 dX7_single_163 rfl ?_
            obtain ⟨fs164, he164, hf⟩ := sd_isC_some hf
            refine sj_cR (rest := []) (fun _ _ _ e => sj_runV (n := 0) (As := []) (rest := []) (sX7_wrong l hl G a0 h _ _ _ e) he164 rfl rfl rfl rfl q1030 q1032 qs10 q134 q1033 (by decide +kernel) rfl rfl ⟨by show 5 + 1 ≤ d + 1 + 10; omega, by show 8 + (1 + 11) + 84 ≤ 45 * (d + 1) + 282; omega⟩ rfl (Nat.le_of_ble_eq_true rfl) dX7_single_164) hf (fun r10 h c hf => ?_)
            obtain ⟨ci167, fs167, he167, hf⟩ := sd_own_some hf
            by_cases z167 : ci167 = 9
            · rw [if_pos z167] at hf; subst z167; exact sj_athrow he167 rfl dX7_single_167 (sj_outX hf rfl (by intro x hx; cases hx))
            · rw [if_neg z167] at hf; cases hf
          · refine sj_ldcSw 30 rfl dX7_single_146 ?_
            refine sj_aload_n 0 dX7_single_149 rfl ?_
            refine sj_getR fdX7_87_8 hf dX7_single_150 (fun v11 hf => ?_)
            refine sj_iconst (v := 0) dX7_single_153 (by decide) ?_
            obtain ⟨fs154, he154, hf⟩ := sd_isC_some hf
            refine sj_cI (rest := [.ref (sd_ad G 130)]) (fun _ _ _ e => sj_runV (n := 1) (As := [.int 0]) (rest := [.ref (sd_ad G 130)]) (sJ14_charAt l G v11 0 h _ _ _ e) he154 rfl rfl rfl rfl q2041 q1066 q1067 q141 q1068 (by decide +kernel) rfl rfl ⟨by show 3 + 1 ≤ d + 1 + 10; omega, by show 8 + (2 + 11) + 64 ≤ 45 * (d + 1) + 282; omega⟩ rfl (Nat.le_of_ble_eq_true rfl) dX7_single_154) hf (fun r12 h c hf => ?_)
            obtain ⟨fs157, he157, hf⟩ := sd_isC_some hf
            refine sj_cI (rest := []) (fun _ _ _ e => sj_runV (n := 1) (As := [.int r12]) (rest := []) (sJ14_indexOf l G (sd_ad G 130) r12 h _ _ _ e) he157 rfl rfl rfl rfl q2042 q867 q868 q141 q869 (by decide +kernel) rfl rfl ⟨by show 3 + 1 ≤ d + 1 + 10; omega, by show 8 + (2 + 11) + 70 ≤ 45 * (d + 1) + 282; omega⟩ rfl (Nat.le_of_ble_eq_true rfl) dX7_single_157) hf (fun r13 h c hf => ?_)
            refine sj_ifge 168 hf dX7_single_160 (by decide) (fun g160 hf => ?_) (fun g160 hf => ?_)
            · refine sj_aload_n 2 dX7_single_168 rfl ?_
              refine sj_dup dX7_single_169 rfl ?_
              refine sj_getI fdX7_29_6 hf dX7_single_170 (fun v14 hf => ?_)
              refine sj_iconst (v := 1) dX7_single_173 (by decide) ?_
              refine sj_iadd dX7_single_174 ?_
              refine sj_put (fpX7_29_6 _ _) hf dX7_single_175 (fun h hf => ?_)
              refine sj_new fnX7_332 hf dX7_single_178 (fun o15 h c hf => ?_)
              refine sj_dup dX7_single_181 rfl ?_
              refine sj_aload_n 0 dX7_single_182 rfl ?_
              refine sj_getR fdX7_87_8 hf dX7_single_183 (fun v16 hf => ?_)
              refine sj_aload_n 1 dX7_single_186 rfl ?_
              refine sj_aload_n 2 dX7_single_187 rfl ?_
              obtain ⟨fs188, he188, hf⟩ := sd_isC_some hf
              refine sj_xR (rest := [.ref r7, .ref v16, .ref o15, .ref o15]) (fun _ _ _ e => sj_runV (n := 0) (As := []) (rest := [.ref r7, .ref v16, .ref o15, .ref o15]) (HR.2.2.2.1 a0 h _ _ _ e) he188 rfl rfl rfl rfl q1864 q1866 qs23 q134 q1867 (by decide +kernel) rfl rfl ⟨by show d + 10 + 1 ≤ d + 1 + 10; omega, by show 8 + (3 + 11) + (45 * d + 282) ≤ 45 * (d + 1) + 282; omega⟩ rfl (Nat.le_of_ble_eq_true rfl) dX7_single_188) hf (fun e188 h c hf => ?_) (fun r17 h c hf => ?_)
              · exact sj_outX hf rfl (by intro x hx; cases hx)
              refine sj_cV (rest := [.ref o15]) (fun _ _ _ e => sj_runI (n := 3) (a := o15) (As := [.ref v16, .ref r7, .ref r17]) (rest := [.ref o15]) (sX24_init l G o15 v16 r7 r17 h _ _ _ e) rfl rfl q2045 q2046 q176 q2047 rfl (by decide +kernel) rfl rfl (fun _ z => by cases z) ⟨by show 1 + 1 ≤ d + 1 + 10; omega, by show 8 + (4 + 11) + 12 ≤ 45 * (d + 1) + 282; omega⟩ rfl (Nat.le_of_ble_eq_true rfl) dX7_single_191) hf (fun h c hf => ?_)
              exact sj_aret (o := (sd_ox sd_oR)) hf rfl rfl rfl (Or.inl ⟨_, rfl⟩) dX7_single_194
            · refine sj_aload_n 2 dX7_single_163 rfl ?_
              obtain ⟨fs164, he164, hf⟩ := sd_isC_some hf
              refine sj_cR (rest := []) (fun _ _ _ e => sj_runV (n := 0) (As := []) (rest := []) (sX7_wrong l hl G a0 h _ _ _ e) he164 rfl rfl rfl rfl q1030 q1032 qs10 q134 q1033 (by decide +kernel) rfl rfl ⟨by show 5 + 1 ≤ d + 1 + 10; omega, by show 8 + (1 + 11) + 84 ≤ 45 * (d + 1) + 282; omega⟩ rfl (Nat.le_of_ble_eq_true rfl) dX7_single_164) hf (fun r18 h c hf => ?_)
              obtain ⟨ci167, fs167, he167, hf⟩ := sd_own_some hf
              by_cases z167 : ci167 = 9
              · rw [if_pos z167] at hf; subst z167; exact sj_athrow he167 rfl dX7_single_167 (sj_outX hf rfl (by intro x hx; cases hx))
              · rw [if_neg z167] at hf; cases hf
        · refine sj_new fnX7_312 hf dX7_single_114 (fun o19 h c hf => ?_)
          refine sj_dup dX7_single_117 rfl ?_
          refine sj_aload_n 0 dX7_single_118 rfl ?_
          obtain ⟨fs119, he119, hf⟩ := sd_isC_some hf
          refine sj_xR (rest := [.ref o19, .ref o19]) (fun _ _ _ e => sj_runV (n := 0) (As := []) (rest := [.ref o19, .ref o19]) (HR.2.2.2.1 a0 h _ _ _ e) he119 rfl rfl rfl rfl q1864 q1866 qs23 q134 q1867 (by decide +kernel) rfl rfl ⟨by show d + 10 + 1 ≤ d + 1 + 10; omega, by show 8 + (3 + 11) + (45 * d + 282) ≤ 45 * (d + 1) + 282; omega⟩ rfl (Nat.le_of_ble_eq_true rfl) dX7_single_119) hf (fun e119 h c hf => ?_) (fun r20 h c hf => ?_)
          · exact sj_outX hf rfl (by intro x hx; cases hx)
          refine sj_cV (rest := [.ref o19]) (fun _ _ _ e => sj_runI (n := 1) (a := o19) (As := [.ref r20]) (rest := [.ref o19]) (sX23_init l G o19 r20 h _ _ _ e) rfl rfl q2031 q2032 q175 q2033 rfl (by decide +kernel) rfl rfl (fun _ z => by cases z) ⟨by show 1 + 1 ≤ d + 1 + 10; omega, by show 8 + (2 + 11) + 12 ≤ 45 * (d + 1) + 282; omega⟩ rfl (Nat.le_of_ble_eq_true rfl) dX7_single_122) hf (fun h c hf => ?_)
          exact sj_aret (o := (sd_ox sd_oR)) hf rfl rfl rfl (Or.inl ⟨_, rfl⟩) dX7_single_125
      · refine sj_new fnX7_307 hf dX7_single_88 (fun o21 h c hf => ?_)
        refine sj_dup dX7_single_91 rfl ?_
        refine sj_aload_n 0 dX7_single_92 rfl ?_
        refine sj_aload_n 0 dX7_single_93 rfl ?_
        refine sj_getR fdX7_21_6 hf dX7_single_94 (fun v22 hf => ?_)
        obtain ⟨fs97, he97, hf⟩ := sd_isC_some hf
        refine sj_xI (rest := [.ref o21, .ref o21]) (fun _ _ _ e => sj_runV (n := 1) (As := [.ref v22]) (rest := [.ref o21, .ref o21]) (sX7_known l hl G a0 v22 h _ _ _ e) he97 rfl rfl rfl rfl q1820 q1822 qs20 q134 q1823 (by decide +kernel) rfl rfl ⟨by show 7 + 1 ≤ d + 1 + 10; omega, by show 8 + (3 + 11) + 160 ≤ 45 * (d + 1) + 282; omega⟩ rfl (Nat.le_of_ble_eq_true rfl) dX7_single_97) hf (fun e97 h c hf => ?_) (fun r23 h c hf => ?_)
        · exact sj_outX hf rfl (by intro x hx; cases hx)
        refine sj_cV (rest := [.ref o21]) (fun _ _ _ e => sj_runI (n := 1) (a := o21) (As := [.int r23]) (rest := [.ref o21]) (sX22_init l G o21 r23 h _ _ _ e) rfl rfl q2020 q2021 q174 q2022 rfl (by decide +kernel) rfl rfl (fun _ z => by cases z) ⟨by show 1 + 1 ≤ d + 1 + 10; omega, by show 8 + (2 + 11) + 12 ≤ 45 * (d + 1) + 282; omega⟩ rfl (Nat.le_of_ble_eq_true rfl) dX7_single_100) hf (fun h c hf => ?_)
        exact sj_aret (o := (sd_ox sd_oR)) hf rfl rfl rfl (Or.inl ⟨_, rfl⟩) dX7_single_103
    · refine sj_aload_n 0 dX7_single_57 rfl ?_
      refine sj_ldcSw 26 rfl dX7_single_58 ?_
      obtain ⟨fs61, he61, hf⟩ := sd_isC_some hf
      refine sj_xV (rest := []) (fun _ _ _ e => sj_runV (n := 1) (As := [.ref (sd_ad G 126)]) (rest := []) (sX7_deeper l hl G a0 (sd_ad G 126) h _ _ _ e) he61 rfl rfl rfl rfl q1912 q1914 qs27 q134 q1915 (by decide +kernel) rfl rfl ⟨by show 6 + 1 ≤ d + 1 + 10; omega, by show 8 + (2 + 11) + 104 ≤ 45 * (d + 1) + 282; omega⟩ rfl (Nat.le_of_ble_eq_true rfl) dX7_single_61) hf (fun e61 h c hf => ?_) (fun h c hf => ?_)
      · exact sj_outX hf rfl (by intro x hx; cases hx)
      refine sj_aload_n 0 dX7_single_64 rfl ?_
      obtain ⟨fs65, he65, hf⟩ := sd_isC_some hf
      refine sj_xR (rest := []) (fun _ _ _ e => sj_runV (n := 0) (As := []) (rest := []) (HR.1 a0 h _ _ _ e) he65 rfl rfl rfl rfl q1976 q1978 qs29 q134 q1979 (by decide +kernel) rfl rfl ⟨by show d + 10 + 1 ≤ d + 1 + 10; omega, by show 8 + (2 + 11) + (45 * d + 282) ≤ 45 * (d + 1) + 282; omega⟩ rfl (Nat.le_of_ble_eq_true rfl) dX7_single_65) hf (fun e65 h c hf => ?_) (fun r24 h c hf => ?_)
      · exact sj_outX hf rfl (by intro x hx; cases hx)
      refine sj_astore_n [(1, .ref r24), (0, .ref a0)] dX7_single_68 (by decide) rfl ?_
      refine sj_aload_n 1 dX7_single_69 rfl ?_
      refine sj_ldcSw 27 rfl dX7_single_70 ?_
      obtain ⟨fs73, he73, hf⟩ := sd_isC_some hf
      refine sj_xV (rest := []) (fun _ _ _ e => sj_runV (n := 1) (As := [.ref (sd_ad G 127)]) (rest := []) (sX7_close l hl G a0 (sd_ad G 127) h _ _ _ e) he73 rfl rfl rfl rfl q1917 q1919 qs28 q134 q1920 (by decide +kernel) rfl rfl ⟨by show 7 + 1 ≤ d + 1 + 10; omega, by show 8 + (2 + 11) + 127 ≤ 45 * (d + 1) + 282; omega⟩ rfl (Nat.le_of_ble_eq_true rfl) dX7_single_73) hf (fun e73 h c hf => ?_) (fun h c hf => ?_)
      · exact sj_outX hf rfl (by intro x hx; cases hx)
      refine sj_aload_n 0 dX7_single_76 rfl ?_
      exact sj_aret (o := (sd_ox sd_oR)) hf rfl rfl rfl (Or.inl ⟨_, rfl⟩) dX7_single_77
  · refine sj_aload_n 0 dX7_single_13 rfl ?_
    refine sj_ldcSw 25 rfl dX7_single_14 ?_
    obtain ⟨fs17, he17, hf⟩ := sd_isC_some hf
    refine sj_xV (rest := []) (fun _ _ _ e => sj_runV (n := 1) (As := [.ref (sd_ad G 125)]) (rest := []) (sX7_deeper l hl G a0 (sd_ad G 125) h _ _ _ e) he17 rfl rfl rfl rfl q1912 q1914 qs27 q134 q1915 (by decide +kernel) rfl rfl ⟨by show 6 + 1 ≤ d + 1 + 10; omega, by show 8 + (2 + 11) + 104 ≤ 45 * (d + 1) + 282; omega⟩ rfl (Nat.le_of_ble_eq_true rfl) dX7_single_17) hf (fun e17 h c hf => ?_) (fun h c hf => ?_)
    · exact sj_outX hf rfl (by intro x hx; cases hx)
    refine sj_new fnX7_293 hf dX7_single_20 (fun o25 h c hf => ?_)
    refine sj_dup dX7_single_23 rfl ?_
    refine sj_aload_n 0 dX7_single_24 rfl ?_
    obtain ⟨fs25, he25, hf⟩ := sd_isC_some hf
    refine sj_xR (rest := [.ref o25, .ref o25]) (fun _ _ _ e => sj_runV (n := 0) (As := []) (rest := [.ref o25, .ref o25]) (HR.2.2.1 a0 h _ _ _ e) he25 rfl rfl rfl rfl q2000 q2002 qs31 q134 q2003 (by decide +kernel) rfl rfl ⟨by show d + 10 + 1 ≤ d + 1 + 10; omega, by show 8 + (3 + 11) + (45 * d + 282) ≤ 45 * (d + 1) + 282; omega⟩ rfl (Nat.le_of_ble_eq_true rfl) dX7_single_25) hf (fun e25 h c hf => ?_) (fun r26 h c hf => ?_)
    · exact sj_outX hf rfl (by intro x hx; cases hx)
    refine sj_cV (rest := [.ref o25]) (fun _ _ _ e => sj_runI (n := 1) (a := o25) (As := [.ref r26]) (rest := [.ref o25]) (sX21_init l G o25 r26 h _ _ _ e) rfl rfl q2007 q2008 q173 q2009 rfl (by decide +kernel) rfl rfl (fun _ z => by cases z) ⟨by show 1 + 1 ≤ d + 1 + 10; omega, by show 8 + (2 + 11) + 12 ≤ 45 * (d + 1) + 282; omega⟩ rfl (Nat.le_of_ble_eq_true rfl) dX7_single_28) hf (fun h c hf => ?_)
    refine sj_astore_n [(1, .ref o25), (0, .ref a0)] dX7_single_31 (by decide) rfl ?_
    refine sj_aload_n 1 dX7_single_32 rfl ?_
    refine sj_dup dX7_single_33 rfl ?_
    refine sj_getI fdX7_66_6 hf dX7_single_34 (fun v27 hf => ?_)
    refine sj_iconst (v := 1) dX7_single_37 (by decide) ?_
    refine sj_isub dX7_single_38 ?_
    refine sj_put (fpX7_66_6 _ _) hf dX7_single_39 (fun h hf => ?_)
    refine sj_aload_n 0 dX7_single_42 rfl ?_
    exact sj_aret (o := (sd_ox sd_oR)) hf rfl rfl rfl (Or.inl ⟨_, rfl⟩) dX7_single_43
/-! SofaDig$Reader.sum()LSofaDig$Sum; -/
theorem fnX7_353 : sd_Fn "SofaDig$Reader" 353 16 3 [.null, .null, .null] := ⟨(RX18, TX18, 3), tyX18, rfl, rfl, in_X18, q1946, q1947, q170, tyX18_ok, fun j hj => by revert j; decide⟩
def fX7_sum_b65 (G : sd_G) (R : TRP) (k5 : Nat × Nat → sd_M (Nat ⊕ Nat)) (w0 : Nat) (w1 : Nat) (w2 : Nat) : sd_M (Nat ⊕ Nat) :=
  sd_bnd (sd_new 16 3 [.null, .null, .null]) fun o5 =>
  sd_bnd (sd_isC G 6 w0) fun _ =>
  sd_bx (R.2.2.2.2.1 w0) (fun e72 =>
    sd_ret (.inr e72)) fun r6 =>
  sd_bnd (fX18_init G o5 w2 w1 r6) fun _ =>
  k5 (w0, o5)
set_option maxHeartbeats 4000000 in
theorem sX7_sum_b65 (l : Launch) (hl : l.stackTraces = false) (G : sd_G) (d : Nat) (R : TRP) (HR : HRP l G d R) (a0 : Nat) (ρ : Nat ⊕ Nat) (h2 : sd_H) (cT : Nat × Nat) (k5 : Nat × Nat → sd_M (Nat ⊕ Nat)) (Hk5 : ∀ (q : Nat × Nat) (h : sd_H) (c : Nat × Nat), k5 q h = some (ρ, c, h2) → sd_J mX7_sum ((l, G), (d + 1 + 10, 45 * (d + 1) + 282), [.ref a0], ((sd_ox sd_oR) ρ, h2), cT) 5 [(0, .ref q.1), (1, .ref q.2)] [] h c) (w0 : Nat) (w1 : Nat) (w2 : Nat) (h : sd_H) (c : Nat × Nat) (hf : fX7_sum_b65 G R k5 w0 w1 w2 h = some (ρ, c, h2)) : sd_J mX7_sum ((l, G), (d + 1 + 10, 45 * (d + 1) + 282), [.ref a0], ((sd_ox sd_oR) ρ, h2), cT) 65 [(0, .ref w0), (1, .ref w1), (2, .ref w2)] [] h c := by
  unfold fX7_sum_b65 at hf
  refine sj_new fnX7_353 hf dX7_sum_65 (fun o5 h c hf => ?_)
  refine sj_dup dX7_sum_68 rfl ?_
  refine sj_aload_n 2 dX7_sum_69 rfl ?_
  refine sj_aload_n 1 dX7_sum_70 rfl ?_
  refine sj_aload_n 0 dX7_sum_71 rfl ?_
  obtain ⟨fs72, he72, hf⟩ := sd_isC_some hf
  refine sj_xR (rest := [.ref w1, .ref w2, .ref o5, .ref o5]) (fun _ _ _ e => sj_runV (n := 0) (As := []) (rest := [.ref w1, .ref w2, .ref o5, .ref o5]) (HR.2.2.2.2.1 w0 h _ _ _ e) he72 rfl rfl rfl rfl q1868 q1870 qs24 q134 q1871 (by decide +kernel) rfl rfl ⟨by show d + 10 + 1 ≤ d + 1 + 10; omega, by show 8 + (3 + 11) + (45 * d + 282) ≤ 45 * (d + 1) + 282; omega⟩ rfl (Nat.le_of_ble_eq_true rfl) dX7_sum_72) hf (fun e72 h c hf => ?_) (fun r6 h c hf => ?_)
  · exact sj_outX hf rfl (by intro x hx; cases hx)
  refine sj_cV (rest := [.ref o5]) (fun _ _ _ e => sj_runI (n := 3) (a := o5) (As := [.ref w2, .ref w1, .ref r6]) (rest := [.ref o5]) (sX18_init l G o5 w2 w1 r6 h _ _ _ e) rfl rfl q1948 q1949 q170 q1950 rfl (by decide +kernel) rfl rfl (fun _ z => by cases z) ⟨by show 2 + 1 ≤ d + 1 + 10; omega, by show 8 + (4 + 11) + 32 ≤ 45 * (d + 1) + 282; omega⟩ rfl (Nat.le_of_ble_eq_true rfl) dX7_sum_75) hf (fun h c hf => ?_)
  refine sj_astore_n [(1, .ref o5), (0, .ref w0), (2, .ref w2)] dX7_sum_78 (by decide) rfl ?_
  refine sj_goto 5 dX7_sum_79 (by decide) ?_
  exact sj_loc [1, 0] rfl (Hk5 (w0, o5) _ _ hf)
def fX7_sum_b50 (G : sd_G) (R : TRP) (k5 : Nat × Nat → sd_M (Nat ⊕ Nat)) (w0 : Nat) (w1 : Nat) (y0 : Nat) : sd_M (Nat ⊕ Nat) :=
  if y0 = (sd_ad G 17) then (
    sd_bnd (sd_isC G 6 w0) fun _ =>
    sd_bx (fX7_take_2 G w0 (sd_ad G 120)) (fun e62 =>
      sd_ret (.inr e62)) fun _ =>
    fX7_sum_b65 G R k5 w0 w1 y0)
  else (
    fX7_sum_b65 G R k5 w0 w1 y0)
set_option maxHeartbeats 4000000 in
theorem sX7_sum_b50 (l : Launch) (hl : l.stackTraces = false) (G : sd_G) (d : Nat) (R : TRP) (HR : HRP l G d R) (a0 : Nat) (ρ : Nat ⊕ Nat) (h2 : sd_H) (cT : Nat × Nat) (k5 : Nat × Nat → sd_M (Nat ⊕ Nat)) (Hk5 : ∀ (q : Nat × Nat) (h : sd_H) (c : Nat × Nat), k5 q h = some (ρ, c, h2) → sd_J mX7_sum ((l, G), (d + 1 + 10, 45 * (d + 1) + 282), [.ref a0], ((sd_ox sd_oR) ρ, h2), cT) 5 [(0, .ref q.1), (1, .ref q.2)] [] h c) (w0 : Nat) (w1 : Nat) (y0 : Nat) (h : sd_H) (c : Nat × Nat) (hf : fX7_sum_b50 G R k5 w0 w1 y0 h = some (ρ, c, h2)) : sd_J mX7_sum ((l, G), (d + 1 + 10, 45 * (d + 1) + 282), [.ref a0], ((sd_ox sd_oR) ρ, h2), cT) 50 [(0, .ref w0), (1, .ref w1)] [.ref y0] h c := by
  unfold fX7_sum_b50 at hf
  refine sj_astore_n [(2, .ref y0), (0, .ref w0), (1, .ref w1)] dX7_sum_50 (by decide) rfl ?_
  refine sj_aload_n 0 dX7_sum_51 rfl ?_
  refine sj_gets (v := .ref (sd_ad G 17)) 33 rfl rfl ⟨Or.inl q1971, rfl⟩ dX7_sum_52 ?_
  refine sj_acneR 65 hf dX7_sum_55 (by decide) (fun g55 hf => ?_) (fun g55 hf => ?_)
  · exact sj_loc [1, 2, 0] rfl (sX7_sum_b65 l hl G d R HR a0 ρ h2 cT k5 Hk5 w0 w1 y0 _ _ hf)
  · refine sj_aload_n 1 dX7_sum_58 rfl ?_
    refine sj_ldcSw 20 rfl dX7_sum_59 ?_
    obtain ⟨fs62, he62, hf⟩ := sd_isC_some hf
    refine sj_xV (rest := []) (fun _ _ _ e => sj_runV (n := 1) (As := [.ref (sd_ad G 120)]) (rest := []) (sX7_take_2 l hl G w0 (sd_ad G 120) h _ _ _ e) he62 rfl rfl rfl rfl q1085 q1087 qs13 q134 q1088 (by decide +kernel) rfl rfl ⟨by show 6 + 1 ≤ d + 1 + 10; omega, by show 8 + (2 + 11) + 106 ≤ 45 * (d + 1) + 282; omega⟩ rfl (Nat.le_of_ble_eq_true rfl) dX7_sum_62) hf (fun e62 h c hf => ?_) (fun h c hf => ?_)
    · exact sj_outX hf rfl (by intro x hx; cases hx)
    exact sj_loc [1, 2, 0] rfl (sX7_sum_b65 l hl G d R HR a0 ρ h2 cT k5 Hk5 w0 w1 y0 _ _ hf)
def fX7_sum_b31 (G : sd_G) (R : TRP) (k5 : Nat × Nat → sd_M (Nat ⊕ Nat)) (w0 : Nat) (w1 : Nat) : sd_M (Nat ⊕ Nat) :=
  sd_bnd (sd_isC G 6 w0) fun _ =>
  sd_bnd (fX7_takeIf G w0 (sd_ad G 123)) fun r4 =>
  if r4 = 0 then (
    fX7_sum_b50 G R k5 w0 w1 (sd_ad G 17))
  else (
    fX7_sum_b50 G R k5 w0 w1 (sd_ad G 16))
set_option maxHeartbeats 4000000 in
theorem sX7_sum_b31 (l : Launch) (hl : l.stackTraces = false) (G : sd_G) (d : Nat) (R : TRP) (HR : HRP l G d R) (a0 : Nat) (ρ : Nat ⊕ Nat) (h2 : sd_H) (cT : Nat × Nat) (k5 : Nat × Nat → sd_M (Nat ⊕ Nat)) (Hk5 : ∀ (q : Nat × Nat) (h : sd_H) (c : Nat × Nat), k5 q h = some (ρ, c, h2) → sd_J mX7_sum ((l, G), (d + 1 + 10, 45 * (d + 1) + 282), [.ref a0], ((sd_ox sd_oR) ρ, h2), cT) 5 [(0, .ref q.1), (1, .ref q.2)] [] h c) (w0 : Nat) (w1 : Nat) (h : sd_H) (c : Nat × Nat) (hf : fX7_sum_b31 G R k5 w0 w1 h = some (ρ, c, h2)) : sd_J mX7_sum ((l, G), (d + 1 + 10, 45 * (d + 1) + 282), [.ref a0], ((sd_ox sd_oR) ρ, h2), cT) 31 [(0, .ref w0), (1, .ref w1)] [] h c := by
  unfold fX7_sum_b31 at hf
  refine sj_aload_n 0 dX7_sum_31 rfl ?_
  refine sj_ldcSw 23 rfl dX7_sum_32 ?_
  obtain ⟨fs35, he35, hf⟩ := sd_isC_some hf
  refine sj_cI (rest := []) (fun _ _ _ e => sj_runV (n := 1) (As := [.ref (sd_ad G 123)]) (rest := []) (sX7_takeIf l G w0 (sd_ad G 123) h _ _ _ e) he35 rfl rfl rfl rfl q987 q989 qs6 q134 q990 (by decide +kernel) rfl rfl ⟨by show 4 + 1 ≤ d + 1 + 10; omega, by show 8 + (3 + 11) + 84 ≤ 45 * (d + 1) + 282; omega⟩ rfl (Nat.le_of_ble_eq_true rfl) dX7_sum_35) hf (fun r4 h c hf => ?_)
  refine sj_ifeq 47 hf dX7_sum_38 (by decide) (fun g38 hf => ?_) (fun g38 hf => ?_)
  · refine sj_gets (v := .ref (sd_ad G 17)) 33 rfl rfl ⟨Or.inl q1971, rfl⟩ dX7_sum_47 ?_
    exact sj_loc [0, 1] rfl (sX7_sum_b50 l hl G d R HR a0 ρ h2 cT k5 Hk5 w0 w1 (sd_ad G 17) _ _ hf)
  · refine sj_gets (v := .ref (sd_ad G 16)) 32 rfl rfl ⟨Or.inl q1969, rfl⟩ dX7_sum_41 ?_
    refine sj_goto 50 dX7_sum_44 (by decide) ?_
    exact sj_loc [0, 1] rfl (sX7_sum_b50 l hl G d R HR a0 ρ h2 cT k5 Hk5 w0 w1 (sd_ad G 16) _ _ hf)
def fX7_sum_b5 (G : sd_G) (R : TRP) (k5 : Nat × Nat → sd_M (Nat ⊕ Nat)) (w0 : Nat) (w1 : Nat) : sd_M (Nat ⊕ Nat) :=
  sd_bnd (sd_isC G 6 w0) fun _ =>
  sd_bnd (fX7_now G w0) fun r2 =>
  sd_bnd (sd_isC G 8 r2) fun _ =>
  sd_bnd (fX9_is G r2 (sd_ad G 123)) fun r3 =>
  if r3 = 0 then (
    sd_bnd (sd_isC G 6 w0) fun _ =>
    sd_bnd (fX7_now G w0) fun r7 =>
    sd_bnd (sd_isC G 8 r7) fun _ =>
    sd_bnd (fX9_is G r7 (sd_ad G 120)) fun r8 =>
    if r8 = 0 then (
      sd_ret (.inl w1))
    else (
      fX7_sum_b31 G R k5 w0 w1))
  else (
    fX7_sum_b31 G R k5 w0 w1)
set_option maxHeartbeats 4000000 in
theorem sX7_sum_b5 (l : Launch) (hl : l.stackTraces = false) (G : sd_G) (d : Nat) (R : TRP) (HR : HRP l G d R) (a0 : Nat) (ρ : Nat ⊕ Nat) (h2 : sd_H) (cT : Nat × Nat) (k5 : Nat × Nat → sd_M (Nat ⊕ Nat)) (Hk5 : ∀ (q : Nat × Nat) (h : sd_H) (c : Nat × Nat), k5 q h = some (ρ, c, h2) → sd_J mX7_sum ((l, G), (d + 1 + 10, 45 * (d + 1) + 282), [.ref a0], ((sd_ox sd_oR) ρ, h2), cT) 5 [(0, .ref q.1), (1, .ref q.2)] [] h c) (w0 : Nat) (w1 : Nat) (h : sd_H) (c : Nat × Nat) (hf : fX7_sum_b5 G R k5 w0 w1 h = some (ρ, c, h2)) : sd_J mX7_sum ((l, G), (d + 1 + 10, 45 * (d + 1) + 282), [.ref a0], ((sd_ox sd_oR) ρ, h2), cT) 5 [(0, .ref w0), (1, .ref w1)] [] h c := by
  unfold fX7_sum_b5 at hf
  refine sj_aload_n 0 dX7_sum_5 rfl ?_
  obtain ⟨fs6, he6, hf⟩ := sd_isC_some hf
  refine sj_cR (rest := []) (fun _ _ _ e => sj_runV (n := 0) (As := []) (rest := []) (sX7_now l G w0 h _ _ _ e) he6 rfl rfl rfl rfl q991 q993 qs7 q134 q994 (by decide +kernel) rfl rfl ⟨by show 3 + 1 ≤ d + 1 + 10; omega, by show 8 + (1 + 11) + 64 ≤ 45 * (d + 1) + 282; omega⟩ rfl (Nat.le_of_ble_eq_true rfl) dX7_sum_6) hf (fun r2 h c hf => ?_)
  refine sj_ldcSw 23 rfl dX7_sum_9 ?_
  obtain ⟨fs12, he12, hf⟩ := sd_isC_some hf
  refine sj_cI (rest := []) (fun _ _ _ e => sj_runV (n := 1) (As := [.ref (sd_ad G 123)]) (rest := []) (sX9_is l G r2 (sd_ad G 123) h _ _ _ e) he12 rfl rfl rfl rfl q1014 q1015 q1016 q136 q1017 (by decide +kernel) rfl rfl ⟨by show 2 + 1 ≤ d + 1 + 10; omega, by show 8 + (2 + 11) + 44 ≤ 45 * (d + 1) + 282; omega⟩ rfl (Nat.le_of_ble_eq_true rfl) dX7_sum_12) hf (fun r3 h c hf => ?_)
  refine sj_ifne 31 hf dX7_sum_15 (by decide) (fun g15 hf => ?_) (fun g15 hf => ?_)
  · exact sj_loc [0, 1] rfl (sX7_sum_b31 l hl G d R HR a0 ρ h2 cT k5 Hk5 w0 w1 _ _ hf)
  · refine sj_aload_n 0 dX7_sum_18 rfl ?_
    obtain ⟨fs19, he19, hf⟩ := sd_isC_some hf
    refine sj_cR (rest := []) (fun _ _ _ e => sj_runV (n := 0) (As := []) (rest := []) (sX7_now l G w0 h _ _ _ e) he19 rfl rfl rfl rfl q991 q993 qs7 q134 q994 (by decide +kernel) rfl rfl ⟨by show 3 + 1 ≤ d + 1 + 10; omega, by show 8 + (1 + 11) + 64 ≤ 45 * (d + 1) + 282; omega⟩ rfl (Nat.le_of_ble_eq_true rfl) dX7_sum_19) hf (fun r7 h c hf => ?_)
    refine sj_ldcSw 20 rfl dX7_sum_22 ?_
    obtain ⟨fs25, he25, hf⟩ := sd_isC_some hf
    refine sj_cI (rest := []) (fun _ _ _ e => sj_runV (n := 1) (As := [.ref (sd_ad G 120)]) (rest := []) (sX9_is l G r7 (sd_ad G 120) h _ _ _ e) he25 rfl rfl rfl rfl q1014 q1015 q1016 q136 q1017 (by decide +kernel) rfl rfl ⟨by show 2 + 1 ≤ d + 1 + 10; omega, by show 8 + (2 + 11) + 44 ≤ 45 * (d + 1) + 282; omega⟩ rfl (Nat.le_of_ble_eq_true rfl) dX7_sum_25) hf (fun r8 h c hf => ?_)
    refine sj_ifeq 82 hf dX7_sum_28 (by decide) (fun g28 hf => ?_) (fun g28 hf => ?_)
    · refine sj_aload_n 1 dX7_sum_82 rfl ?_
      exact sj_aret (o := (sd_ox sd_oR)) hf rfl rfl rfl (Or.inl ⟨_, rfl⟩) dX7_sum_83
    · exact sj_loc [0, 1] rfl (sX7_sum_b31 l hl G d R HR a0 ρ h2 cT k5 Hk5 w0 w1 _ _ hf)
theorem sX7_sum_b5_loop (l : Launch) (hl : l.stackTraces = false) (G : sd_G) (d : Nat) (R : TRP) (HR : HRP l G d R) (a0 : Nat) (ρ : Nat ⊕ Nat) (h2 : sd_H) (cT : Nat × Nat) (n : Nat) : ∀ (q : Nat × Nat) (h : sd_H) (c : Nat × Nat), sd_loop (fun k s => fX7_sum_b5 G R k s.1 s.2) n q h = some (ρ, c, h2) → sd_J mX7_sum ((l, G), (d + 1 + 10, 45 * (d + 1) + 282), [.ref a0], ((sd_ox sd_oR) ρ, h2), cT) 5 [(0, .ref q.1), (1, .ref q.2)] [] h c := by
  induction n with
  | zero => intro q h c hf; cases hf
  | succ n ih => intro q h c hf; exact sX7_sum_b5 l hl G d R HR a0 ρ h2 cT _ ih _ _ _ _ hf
def fX7_sum (G : sd_G) (R : TRP) (a0 : Nat) : sd_M (Nat ⊕ Nat) :=
  sd_bnd (sd_isC G 6 a0) fun _ =>
  sd_bx (R.2.2.2.2.1 a0) (fun e1 =>
    sd_ret (.inr e1)) fun r1 =>
  sd_loop (fun k s => fX7_sum_b5 G R k s.1 s.2) sd_FU (a0, r1)
set_option maxHeartbeats 4000000 in
theorem sX7_sum (l : Launch) (hl : l.stackTraces = false) (G : sd_G) (d : Nat) (R : TRP) (HR : HRP l G d R) (a0 : Nat) (h : sd_H) (ρ : Nat ⊕ Nat) (cT : Nat × Nat) (h2 : sd_H) (hf : fX7_sum G R a0 h = some (ρ, cT, h2)) : sd_Met mX7_sum ((l, G), (d + 1 + 10, 45 * (d + 1) + 282), [.ref a0], ((sd_ox sd_oR) ρ, h2), cT) h := by
  refine sd_entry (plainFor_of_name rfl) rfl (Nat.le_of_ble_eq_true rfl) ?_
  show sd_J mX7_sum ((l, G), (d + 1 + 10, 45 * (d + 1) + 282), [.ref a0], ((sd_ox sd_oR) ρ, h2), cT) 0 [(0, .ref a0)] [] h cT
  unfold fX7_sum at hf
  refine sj_aload_n 0 dX7_sum_0 rfl ?_
  obtain ⟨fs1, he1, hf⟩ := sd_isC_some hf
  refine sj_xR (rest := []) (fun _ _ _ e => sj_runV (n := 0) (As := []) (rest := []) (HR.2.2.2.2.1 a0 h _ _ _ e) he1 rfl rfl rfl rfl q1868 q1870 qs24 q134 q1871 (by decide +kernel) rfl rfl ⟨by show d + 10 + 1 ≤ d + 1 + 10; omega, by show 8 + (3 + 11) + (45 * d + 282) ≤ 45 * (d + 1) + 282; omega⟩ rfl (Nat.le_of_ble_eq_true rfl) dX7_sum_1) hf (fun e1 h c hf => ?_) (fun r1 h c hf => ?_)
  · exact sj_outX hf rfl (by intro x hx; cases hx)
  refine sj_astore_n [(1, .ref r1), (0, .ref a0)] dX7_sum_4 (by decide) rfl ?_
  exact sj_loc [1, 0] rfl (sX7_sum_b5_loop l hl G d R HR a0 ρ h2 cT sd_FU (a0, r1) _ _ hf)
/-! SofaDig$Reader.product()LSofaDig$Sum; -/
def fX7_product_b65 (G : sd_G) (R : TRP) (k5 : Nat × Nat → sd_M (Nat ⊕ Nat)) (w0 : Nat) (w1 : Nat) (w2 : Nat) : sd_M (Nat ⊕ Nat) :=
  sd_bnd (sd_new 16 3 [.null, .null, .null]) fun o5 =>
  sd_bnd (sd_isC G 6 w0) fun _ =>
  sd_bx (R.2.2.2.2.2 w0) (fun e72 =>
    sd_ret (.inr e72)) fun r6 =>
  sd_bnd (fX18_init G o5 w2 w1 r6) fun _ =>
  k5 (w0, o5)
set_option maxHeartbeats 4000000 in
theorem sX7_product_b65 (l : Launch) (hl : l.stackTraces = false) (G : sd_G) (d : Nat) (R : TRP) (HR : HRP l G d R) (a0 : Nat) (ρ : Nat ⊕ Nat) (h2 : sd_H) (cT : Nat × Nat) (k5 : Nat × Nat → sd_M (Nat ⊕ Nat)) (Hk5 : ∀ (q : Nat × Nat) (h : sd_H) (c : Nat × Nat), k5 q h = some (ρ, c, h2) → sd_J mX7_product ((l, G), (d + 1 + 10, 45 * (d + 1) + 282), [.ref a0], ((sd_ox sd_oR) ρ, h2), cT) 5 [(0, .ref q.1), (1, .ref q.2)] [] h c) (w0 : Nat) (w1 : Nat) (w2 : Nat) (h : sd_H) (c : Nat × Nat) (hf : fX7_product_b65 G R k5 w0 w1 w2 h = some (ρ, c, h2)) : sd_J mX7_product ((l, G), (d + 1 + 10, 45 * (d + 1) + 282), [.ref a0], ((sd_ox sd_oR) ρ, h2), cT) 65 [(0, .ref w0), (1, .ref w1), (2, .ref w2)] [] h c := by
  unfold fX7_product_b65 at hf
  refine sj_new fnX7_353 hf dX7_product_65 (fun o5 h c hf => ?_)
  refine sj_dup dX7_product_68 rfl ?_
  refine sj_aload_n 2 dX7_product_69 rfl ?_
  refine sj_aload_n 1 dX7_product_70 rfl ?_
  refine sj_aload_n 0 dX7_product_71 rfl ?_
  obtain ⟨fs72, he72, hf⟩ := sd_isC_some hf
  refine sj_xR (rest := [.ref w1, .ref w2, .ref o5, .ref o5]) (fun _ _ _ e => sj_runV (n := 0) (As := []) (rest := [.ref w1, .ref w2, .ref o5, .ref o5]) (HR.2.2.2.2.2 w0 h _ _ _ e) he72 rfl rfl rfl rfl q1872 q1874 qs25 q134 q1875 (by decide +kernel) rfl rfl ⟨by show d + 10 + 1 ≤ d + 1 + 10; omega, by show 8 + (5 + 11) + (45 * d + 282) ≤ 45 * (d + 1) + 282; omega⟩ rfl (Nat.le_of_ble_eq_true rfl) dX7_product_72) hf (fun e72 h c hf => ?_) (fun r6 h c hf => ?_)
  · exact sj_outX hf rfl (by intro x hx; cases hx)
  refine sj_cV (rest := [.ref o5]) (fun _ _ _ e => sj_runI (n := 3) (a := o5) (As := [.ref w2, .ref w1, .ref r6]) (rest := [.ref o5]) (sX18_init l G o5 w2 w1 r6 h _ _ _ e) rfl rfl q1948 q1949 q170 q1950 rfl (by decide +kernel) rfl rfl (fun _ z => by cases z) ⟨by show 2 + 1 ≤ d + 1 + 10; omega, by show 8 + (4 + 11) + 32 ≤ 45 * (d + 1) + 282; omega⟩ rfl (Nat.le_of_ble_eq_true rfl) dX7_product_75) hf (fun h c hf => ?_)
  refine sj_astore_n [(1, .ref o5), (0, .ref w0), (2, .ref w2)] dX7_product_78 (by decide) rfl ?_
  refine sj_goto 5 dX7_product_79 (by decide) ?_
  exact sj_loc [1, 0] rfl (Hk5 (w0, o5) _ _ hf)
def fX7_product_b50 (G : sd_G) (R : TRP) (k5 : Nat × Nat → sd_M (Nat ⊕ Nat)) (w0 : Nat) (w1 : Nat) (y0 : Nat) : sd_M (Nat ⊕ Nat) :=
  if y0 = (sd_ad G 15) then (
    sd_bnd (sd_isC G 6 w0) fun _ =>
    sd_bx (fX7_take_2 G w0 (sd_ad G 122)) (fun e62 =>
      sd_ret (.inr e62)) fun _ =>
    fX7_product_b65 G R k5 w0 w1 y0)
  else (
    fX7_product_b65 G R k5 w0 w1 y0)
set_option maxHeartbeats 4000000 in
theorem sX7_product_b50 (l : Launch) (hl : l.stackTraces = false) (G : sd_G) (d : Nat) (R : TRP) (HR : HRP l G d R) (a0 : Nat) (ρ : Nat ⊕ Nat) (h2 : sd_H) (cT : Nat × Nat) (k5 : Nat × Nat → sd_M (Nat ⊕ Nat)) (Hk5 : ∀ (q : Nat × Nat) (h : sd_H) (c : Nat × Nat), k5 q h = some (ρ, c, h2) → sd_J mX7_product ((l, G), (d + 1 + 10, 45 * (d + 1) + 282), [.ref a0], ((sd_ox sd_oR) ρ, h2), cT) 5 [(0, .ref q.1), (1, .ref q.2)] [] h c) (w0 : Nat) (w1 : Nat) (y0 : Nat) (h : sd_H) (c : Nat × Nat) (hf : fX7_product_b50 G R k5 w0 w1 y0 h = some (ρ, c, h2)) : sd_J mX7_product ((l, G), (d + 1 + 10, 45 * (d + 1) + 282), [.ref a0], ((sd_ox sd_oR) ρ, h2), cT) 50 [(0, .ref w0), (1, .ref w1)] [.ref y0] h c := by
  unfold fX7_product_b50 at hf
  refine sj_astore_n [(2, .ref y0), (0, .ref w0), (1, .ref w1)] dX7_product_50 (by decide) rfl ?_
  refine sj_aload_n 0 dX7_product_51 rfl ?_
  refine sj_gets (v := .ref (sd_ad G 15)) 31 rfl rfl ⟨Or.inl q1966, rfl⟩ dX7_product_52 ?_
  refine sj_acneR 65 hf dX7_product_55 (by decide) (fun g55 hf => ?_) (fun g55 hf => ?_)
  · exact sj_loc [1, 2, 0] rfl (sX7_product_b65 l hl G d R HR a0 ρ h2 cT k5 Hk5 w0 w1 y0 _ _ hf)
  · refine sj_aload_n 1 dX7_product_58 rfl ?_
    refine sj_ldcSw 22 rfl dX7_product_59 ?_
    obtain ⟨fs62, he62, hf⟩ := sd_isC_some hf
    refine sj_xV (rest := []) (fun _ _ _ e => sj_runV (n := 1) (As := [.ref (sd_ad G 122)]) (rest := []) (sX7_take_2 l hl G w0 (sd_ad G 122) h _ _ _ e) he62 rfl rfl rfl rfl q1085 q1087 qs13 q134 q1088 (by decide +kernel) rfl rfl ⟨by show 6 + 1 ≤ d + 1 + 10; omega, by show 8 + (2 + 11) + 106 ≤ 45 * (d + 1) + 282; omega⟩ rfl (Nat.le_of_ble_eq_true rfl) dX7_product_62) hf (fun e62 h c hf => ?_) (fun h c hf => ?_)
    · exact sj_outX hf rfl (by intro x hx; cases hx)
    exact sj_loc [1, 2, 0] rfl (sX7_product_b65 l hl G d R HR a0 ρ h2 cT k5 Hk5 w0 w1 y0 _ _ hf)
def fX7_product_b31 (G : sd_G) (R : TRP) (k5 : Nat × Nat → sd_M (Nat ⊕ Nat)) (w0 : Nat) (w1 : Nat) : sd_M (Nat ⊕ Nat) :=
  sd_bnd (sd_isC G 6 w0) fun _ =>
  sd_bnd (fX7_takeIf G w0 (sd_ad G 121)) fun r4 =>
  if r4 = 0 then (
    fX7_product_b50 G R k5 w0 w1 (sd_ad G 15))
  else (
    fX7_product_b50 G R k5 w0 w1 (sd_ad G 14))
set_option maxHeartbeats 4000000 in
theorem sX7_product_b31 (l : Launch) (hl : l.stackTraces = false) (G : sd_G) (d : Nat) (R : TRP) (HR : HRP l G d R) (a0 : Nat) (ρ : Nat ⊕ Nat) (h2 : sd_H) (cT : Nat × Nat) (k5 : Nat × Nat → sd_M (Nat ⊕ Nat)) (Hk5 : ∀ (q : Nat × Nat) (h : sd_H) (c : Nat × Nat), k5 q h = some (ρ, c, h2) → sd_J mX7_product ((l, G), (d + 1 + 10, 45 * (d + 1) + 282), [.ref a0], ((sd_ox sd_oR) ρ, h2), cT) 5 [(0, .ref q.1), (1, .ref q.2)] [] h c) (w0 : Nat) (w1 : Nat) (h : sd_H) (c : Nat × Nat) (hf : fX7_product_b31 G R k5 w0 w1 h = some (ρ, c, h2)) : sd_J mX7_product ((l, G), (d + 1 + 10, 45 * (d + 1) + 282), [.ref a0], ((sd_ox sd_oR) ρ, h2), cT) 31 [(0, .ref w0), (1, .ref w1)] [] h c := by
  unfold fX7_product_b31 at hf
  refine sj_aload_n 0 dX7_product_31 rfl ?_
  refine sj_ldcSw 21 rfl dX7_product_32 ?_
  obtain ⟨fs35, he35, hf⟩ := sd_isC_some hf
  refine sj_cI (rest := []) (fun _ _ _ e => sj_runV (n := 1) (As := [.ref (sd_ad G 121)]) (rest := []) (sX7_takeIf l G w0 (sd_ad G 121) h _ _ _ e) he35 rfl rfl rfl rfl q987 q989 qs6 q134 q990 (by decide +kernel) rfl rfl ⟨by show 4 + 1 ≤ d + 1 + 10; omega, by show 8 + (3 + 11) + 84 ≤ 45 * (d + 1) + 282; omega⟩ rfl (Nat.le_of_ble_eq_true rfl) dX7_product_35) hf (fun r4 h c hf => ?_)
  refine sj_ifeq 47 hf dX7_product_38 (by decide) (fun g38 hf => ?_) (fun g38 hf => ?_)
  · refine sj_gets (v := .ref (sd_ad G 15)) 31 rfl rfl ⟨Or.inl q1966, rfl⟩ dX7_product_47 ?_
    exact sj_loc [0, 1] rfl (sX7_product_b50 l hl G d R HR a0 ρ h2 cT k5 Hk5 w0 w1 (sd_ad G 15) _ _ hf)
  · refine sj_gets (v := .ref (sd_ad G 14)) 30 rfl rfl ⟨Or.inl q1964, rfl⟩ dX7_product_41 ?_
    refine sj_goto 50 dX7_product_44 (by decide) ?_
    exact sj_loc [0, 1] rfl (sX7_product_b50 l hl G d R HR a0 ρ h2 cT k5 Hk5 w0 w1 (sd_ad G 14) _ _ hf)
def fX7_product_b5 (G : sd_G) (R : TRP) (k5 : Nat × Nat → sd_M (Nat ⊕ Nat)) (w0 : Nat) (w1 : Nat) : sd_M (Nat ⊕ Nat) :=
  sd_bnd (sd_isC G 6 w0) fun _ =>
  sd_bnd (fX7_now G w0) fun r2 =>
  sd_bnd (sd_isC G 8 r2) fun _ =>
  sd_bnd (fX9_is G r2 (sd_ad G 121)) fun r3 =>
  if r3 = 0 then (
    sd_bnd (sd_isC G 6 w0) fun _ =>
    sd_bnd (fX7_now G w0) fun r7 =>
    sd_bnd (sd_isC G 8 r7) fun _ =>
    sd_bnd (fX9_is G r7 (sd_ad G 122)) fun r8 =>
    if r8 = 0 then (
      sd_ret (.inl w1))
    else (
      fX7_product_b31 G R k5 w0 w1))
  else (
    fX7_product_b31 G R k5 w0 w1)
set_option maxHeartbeats 4000000 in
theorem sX7_product_b5 (l : Launch) (hl : l.stackTraces = false) (G : sd_G) (d : Nat) (R : TRP) (HR : HRP l G d R) (a0 : Nat) (ρ : Nat ⊕ Nat) (h2 : sd_H) (cT : Nat × Nat) (k5 : Nat × Nat → sd_M (Nat ⊕ Nat)) (Hk5 : ∀ (q : Nat × Nat) (h : sd_H) (c : Nat × Nat), k5 q h = some (ρ, c, h2) → sd_J mX7_product ((l, G), (d + 1 + 10, 45 * (d + 1) + 282), [.ref a0], ((sd_ox sd_oR) ρ, h2), cT) 5 [(0, .ref q.1), (1, .ref q.2)] [] h c) (w0 : Nat) (w1 : Nat) (h : sd_H) (c : Nat × Nat) (hf : fX7_product_b5 G R k5 w0 w1 h = some (ρ, c, h2)) : sd_J mX7_product ((l, G), (d + 1 + 10, 45 * (d + 1) + 282), [.ref a0], ((sd_ox sd_oR) ρ, h2), cT) 5 [(0, .ref w0), (1, .ref w1)] [] h c := by
  unfold fX7_product_b5 at hf
  refine sj_aload_n 0 dX7_product_5 rfl ?_
  obtain ⟨fs6, he6, hf⟩ := sd_isC_some hf
  refine sj_cR (rest := []) (fun _ _ _ e => sj_runV (n := 0) (As := []) (rest := []) (sX7_now l G w0 h _ _ _ e) he6 rfl rfl rfl rfl q991 q993 qs7 q134 q994 (by decide +kernel) rfl rfl ⟨by show 3 + 1 ≤ d + 1 + 10; omega, by show 8 + (1 + 11) + 64 ≤ 45 * (d + 1) + 282; omega⟩ rfl (Nat.le_of_ble_eq_true rfl) dX7_product_6) hf (fun r2 h c hf => ?_)
  refine sj_ldcSw 21 rfl dX7_product_9 ?_
  obtain ⟨fs12, he12, hf⟩ := sd_isC_some hf
  refine sj_cI (rest := []) (fun _ _ _ e => sj_runV (n := 1) (As := [.ref (sd_ad G 121)]) (rest := []) (sX9_is l G r2 (sd_ad G 121) h _ _ _ e) he12 rfl rfl rfl rfl q1014 q1015 q1016 q136 q1017 (by decide +kernel) rfl rfl ⟨by show 2 + 1 ≤ d + 1 + 10; omega, by show 8 + (2 + 11) + 44 ≤ 45 * (d + 1) + 282; omega⟩ rfl (Nat.le_of_ble_eq_true rfl) dX7_product_12) hf (fun r3 h c hf => ?_)
  refine sj_ifne 31 hf dX7_product_15 (by decide) (fun g15 hf => ?_) (fun g15 hf => ?_)
  · exact sj_loc [0, 1] rfl (sX7_product_b31 l hl G d R HR a0 ρ h2 cT k5 Hk5 w0 w1 _ _ hf)
  · refine sj_aload_n 0 dX7_product_18 rfl ?_
    obtain ⟨fs19, he19, hf⟩ := sd_isC_some hf
    refine sj_cR (rest := []) (fun _ _ _ e => sj_runV (n := 0) (As := []) (rest := []) (sX7_now l G w0 h _ _ _ e) he19 rfl rfl rfl rfl q991 q993 qs7 q134 q994 (by decide +kernel) rfl rfl ⟨by show 3 + 1 ≤ d + 1 + 10; omega, by show 8 + (1 + 11) + 64 ≤ 45 * (d + 1) + 282; omega⟩ rfl (Nat.le_of_ble_eq_true rfl) dX7_product_19) hf (fun r7 h c hf => ?_)
    refine sj_ldcSw 22 rfl dX7_product_22 ?_
    obtain ⟨fs25, he25, hf⟩ := sd_isC_some hf
    refine sj_cI (rest := []) (fun _ _ _ e => sj_runV (n := 1) (As := [.ref (sd_ad G 122)]) (rest := []) (sX9_is l G r7 (sd_ad G 122) h _ _ _ e) he25 rfl rfl rfl rfl q1014 q1015 q1016 q136 q1017 (by decide +kernel) rfl rfl ⟨by show 2 + 1 ≤ d + 1 + 10; omega, by show 8 + (2 + 11) + 44 ≤ 45 * (d + 1) + 282; omega⟩ rfl (Nat.le_of_ble_eq_true rfl) dX7_product_25) hf (fun r8 h c hf => ?_)
    refine sj_ifeq 82 hf dX7_product_28 (by decide) (fun g28 hf => ?_) (fun g28 hf => ?_)
    · refine sj_aload_n 1 dX7_product_82 rfl ?_
      exact sj_aret (o := (sd_ox sd_oR)) hf rfl rfl rfl (Or.inl ⟨_, rfl⟩) dX7_product_83
    · exact sj_loc [0, 1] rfl (sX7_product_b31 l hl G d R HR a0 ρ h2 cT k5 Hk5 w0 w1 _ _ hf)
theorem sX7_product_b5_loop (l : Launch) (hl : l.stackTraces = false) (G : sd_G) (d : Nat) (R : TRP) (HR : HRP l G d R) (a0 : Nat) (ρ : Nat ⊕ Nat) (h2 : sd_H) (cT : Nat × Nat) (n : Nat) : ∀ (q : Nat × Nat) (h : sd_H) (c : Nat × Nat), sd_loop (fun k s => fX7_product_b5 G R k s.1 s.2) n q h = some (ρ, c, h2) → sd_J mX7_product ((l, G), (d + 1 + 10, 45 * (d + 1) + 282), [.ref a0], ((sd_ox sd_oR) ρ, h2), cT) 5 [(0, .ref q.1), (1, .ref q.2)] [] h c := by
  induction n with
  | zero => intro q h c hf; cases hf
  | succ n ih => intro q h c hf; exact sX7_product_b5 l hl G d R HR a0 ρ h2 cT _ ih _ _ _ _ hf
def fX7_product (G : sd_G) (R : TRP) (a0 : Nat) : sd_M (Nat ⊕ Nat) :=
  sd_bnd (sd_isC G 6 a0) fun _ =>
  sd_bx (R.2.2.2.2.2 a0) (fun e1 =>
    sd_ret (.inr e1)) fun r1 =>
  sd_loop (fun k s => fX7_product_b5 G R k s.1 s.2) sd_FU (a0, r1)
set_option maxHeartbeats 4000000 in
theorem sX7_product (l : Launch) (hl : l.stackTraces = false) (G : sd_G) (d : Nat) (R : TRP) (HR : HRP l G d R) (a0 : Nat) (h : sd_H) (ρ : Nat ⊕ Nat) (cT : Nat × Nat) (h2 : sd_H) (hf : fX7_product G R a0 h = some (ρ, cT, h2)) : sd_Met mX7_product ((l, G), (d + 1 + 10, 45 * (d + 1) + 282), [.ref a0], ((sd_ox sd_oR) ρ, h2), cT) h := by
  refine sd_entry (plainFor_of_name rfl) rfl (Nat.le_of_ble_eq_true rfl) ?_
  show sd_J mX7_product ((l, G), (d + 1 + 10, 45 * (d + 1) + 282), [.ref a0], ((sd_ox sd_oR) ρ, h2), cT) 0 [(0, .ref a0)] [] h cT
  unfold fX7_product at hf
  refine sj_aload_n 0 dX7_product_0 rfl ?_
  obtain ⟨fs1, he1, hf⟩ := sd_isC_some hf
  refine sj_xR (rest := []) (fun _ _ _ e => sj_runV (n := 0) (As := []) (rest := []) (HR.2.2.2.2.2 a0 h _ _ _ e) he1 rfl rfl rfl rfl q1872 q1874 qs25 q134 q1875 (by decide +kernel) rfl rfl ⟨by show d + 10 + 1 ≤ d + 1 + 10; omega, by show 8 + (5 + 11) + (45 * d + 282) ≤ 45 * (d + 1) + 282; omega⟩ rfl (Nat.le_of_ble_eq_true rfl) dX7_product_1) hf (fun e1 h c hf => ?_) (fun r1 h c hf => ?_)
  · exact sj_outX hf rfl (by intro x hx; cases hx)
  refine sj_astore_n [(1, .ref r1), (0, .ref a0)] dX7_product_4 (by decide) rfl ?_
  exact sj_loc [1, 0] rfl (sX7_product_b5_loop l hl G d R HR a0 ρ h2 cT sd_FU (a0, r1) _ _ hf)
/-! SofaDig$Reader.value()LSofaDig$Sum; -/
theorem fnX7_407 : sd_Fn "SofaDig$Reader" 407 15 1 [.null] := ⟨(RX17, TX17, 1), tyX17, rfl, rfl, in_X17, q1932, q1933, q168, tyX17_ok, fun j hj => by revert j; decide⟩
theorem fnX7_404 : sd_Fn "SofaDig$Reader" 404 14 1 [.null] := ⟨(RX16, TX16, 1), tyX16, rfl, rfl, in_X16, q1921, q1922, q167, tyX16_ok, fun j hj => by revert j; decide⟩
theorem fnX7_386 : sd_Fn "SofaDig$Reader" 386 13 2 [.null, .int 0] := ⟨(RX15, TX15, 2), tyX15, rfl, rfl, in_X15, q1891, q1892, q165, tyX15_ok, fun j hj => by revert j; decide⟩
theorem fnX7_377 : sd_Fn "SofaDig$Reader" 377 12 1 [.int 0] := ⟨(RX14, TX14, 1), tyX14, rfl, rfl, in_X14, q1876, q1877, q163, tyX14_ok, fun j hj => by revert j; decide⟩
def fX7_value_b208 (G : sd_G) (R : TRP) (w0 : Nat) (y0 : Option Nat) : sd_M (Nat ⊕ Nat) :=
  sd_bnd (sd_isC G 6 w0) fun _ =>
  sd_bx (fX7_deeper G w0 (sd_ad G 118)) (fun e213 =>
    sd_ret (.inr e213)) fun _ =>
  sd_bnd (sd_isC G 6 w0) fun _ =>
  sd_bx (R.2.2.2.1 w0) (fun e217 =>
    sd_ret (.inr e217)) fun r11 =>
  match y0 with
  | none =>
    sd_bnd (sd_isC G 6 w0) fun _ =>
    sd_bx (fX7_close G w0 (sd_ad G 119)) (fun e249 =>
      sd_ret (.inr e249)) fun _ =>
    sd_ret (.inl r11)
  | some p12 =>
    sd_bnd (sd_isC G 6 w0) fun _ =>
    sd_bx (fX7_take_2 G w0 (sd_ad G 112)) (fun e228 =>
      sd_ret (.inr e228)) fun _ =>
    sd_bnd (sd_new 16 3 [.null, .null, .null]) fun o13 =>
    sd_bnd (sd_isC G 6 w0) fun _ =>
    sd_bx (R.2.2.2.1 w0) (fun e238 =>
      sd_ret (.inr e238)) fun r14 =>
    sd_bnd (fX18_init G o13 p12 r11 r14) fun _ =>
    sd_bnd (sd_isC G 6 w0) fun _ =>
    sd_bx (fX7_close G w0 (sd_ad G 119)) (fun e249 =>
      sd_ret (.inr e249)) fun _ =>
    sd_ret (.inl o13)
set_option maxHeartbeats 4000000 in
theorem sX7_value_b208 (l : Launch) (hl : l.stackTraces = false) (G : sd_G) (d : Nat) (R : TRP) (HR : HRP l G d R) (a0 : Nat) (ρ : Nat ⊕ Nat) (h2 : sd_H) (cT : Nat × Nat) (w0 : Nat) (y0 : Option Nat) (h : sd_H) (c : Nat × Nat) (hf : fX7_value_b208 G R w0 y0 h = some (ρ, c, h2)) : sd_J mX7_value ((l, G), (d + 1 + 10, 45 * (d + 1) + 282), [.ref a0], ((sd_ox sd_oR) ρ, h2), cT) 208 [(0, .ref w0)] [va_rf y0] h c := by
  unfold fX7_value_b208 at hf
  refine sj_astore_nQ [(1, va_rf y0), (0, .ref w0)] dX7_value_208 (by decide) rfl ?_
  refine sj_aload_n 1 dX7_value_209 rfl ?_
  refine sj_ldcSw 18 rfl dX7_value_210 ?_
  obtain ⟨fs213, he213, hf⟩ := sd_isC_some hf
  refine sj_xV (rest := []) (fun _ _ _ e => sj_runV (n := 1) (As := [.ref (sd_ad G 118)]) (rest := []) (sX7_deeper l hl G w0 (sd_ad G 118) h _ _ _ e) he213 rfl rfl rfl rfl q1912 q1914 qs27 q134 q1915 (by decide +kernel) rfl rfl ⟨by show 6 + 1 ≤ d + 1 + 10; omega, by show 8 + (2 + 11) + 104 ≤ 45 * (d + 1) + 282; omega⟩ rfl (Nat.le_of_ble_eq_true rfl) dX7_value_213) hf (fun e213 h c hf => ?_) (fun h c hf => ?_)
  · exact sj_outX hf rfl (by intro x hx; cases hx)
  refine sj_aload_n 1 dX7_value_216 rfl ?_
  obtain ⟨fs217, he217, hf⟩ := sd_isC_some hf
  refine sj_xR (rest := []) (fun _ _ _ e => sj_runV (n := 0) (As := []) (rest := []) (HR.2.2.2.1 w0 h _ _ _ e) he217 rfl rfl rfl rfl q1864 q1866 qs23 q134 q1867 (by decide +kernel) rfl rfl ⟨by show d + 10 + 1 ≤ d + 1 + 10; omega, by show 8 + (3 + 11) + (45 * d + 282) ≤ 45 * (d + 1) + 282; omega⟩ rfl (Nat.le_of_ble_eq_true rfl) dX7_value_217) hf (fun e217 h c hf => ?_) (fun r11 h c hf => ?_)
  · exact sj_outX hf rfl (by intro x hx; cases hx)
  refine sj_astore_n [(2, .ref r11), (1, va_rf y0), (0, .ref w0)] dX7_value_220 (by decide) (by cases y0 <;> rfl) ?_
  refine sj_aload_nQ 1 dX7_value_221 rfl ?_
  refine sj_ifnull 245 hf dX7_value_222 (by decide) (fun g222 hf => ?_) (fun p12 g222 hf => ?_)
  · refine sj_aload_n 2 dX7_value_245 rfl ?_
    refine sj_ldcSw 19 rfl dX7_value_246 ?_
    obtain ⟨fs249, he249, hf⟩ := sd_isC_some hf
    refine sj_xV (rest := []) (fun _ _ _ e => sj_runV (n := 1) (As := [.ref (sd_ad G 119)]) (rest := []) (sX7_close l hl G w0 (sd_ad G 119) h _ _ _ e) he249 rfl rfl rfl rfl q1917 q1919 qs28 q134 q1920 (by decide +kernel) rfl rfl ⟨by show 7 + 1 ≤ d + 1 + 10; omega, by show 8 + (2 + 11) + 127 ≤ 45 * (d + 1) + 282; omega⟩ rfl (Nat.le_of_ble_eq_true rfl) dX7_value_249) hf (fun e249 h c hf => ?_) (fun h c hf => ?_)
    · exact sj_outX hf rfl (by intro x hx; cases hx)
    refine sj_aload_n 0 dX7_value_252 rfl ?_
    exact sj_aret (o := (sd_ox sd_oR)) hf rfl rfl rfl (Or.inl ⟨_, rfl⟩) dX7_value_253
  · subst g222
    refine sj_aload_n 2 dX7_value_225 rfl ?_
    refine sj_ldcS 12 rfl dX7_value_226 ?_
    obtain ⟨fs228, he228, hf⟩ := sd_isC_some hf
    refine sj_xV (rest := []) (fun _ _ _ e => sj_runV (n := 1) (As := [.ref (sd_ad G 112)]) (rest := []) (sX7_take_2 l hl G w0 (sd_ad G 112) h _ _ _ e) he228 rfl rfl rfl rfl q1085 q1087 qs13 q134 q1088 (by decide +kernel) rfl rfl ⟨by show 6 + 1 ≤ d + 1 + 10; omega, by show 8 + (2 + 11) + 106 ≤ 45 * (d + 1) + 282; omega⟩ rfl (Nat.le_of_ble_eq_true rfl) dX7_value_228) hf (fun e228 h c hf => ?_) (fun h c hf => ?_)
    · exact sj_outX hf rfl (by intro x hx; cases hx)
    refine sj_new fnX7_353 hf dX7_value_231 (fun o13 h c hf => ?_)
    refine sj_dup dX7_value_234 rfl ?_
    refine sj_aload_n 1 dX7_value_235 rfl ?_
    refine sj_aload_n 0 dX7_value_236 rfl ?_
    refine sj_aload_n 2 dX7_value_237 rfl ?_
    obtain ⟨fs238, he238, hf⟩ := sd_isC_some hf
    refine sj_xR (rest := [.ref r11, .ref p12, .ref o13, .ref o13]) (fun _ _ _ e => sj_runV (n := 0) (As := []) (rest := [.ref r11, .ref p12, .ref o13, .ref o13]) (HR.2.2.2.1 w0 h _ _ _ e) he238 rfl rfl rfl rfl q1864 q1866 qs23 q134 q1867 (by decide +kernel) rfl rfl ⟨by show d + 10 + 1 ≤ d + 1 + 10; omega, by show 8 + (3 + 11) + (45 * d + 282) ≤ 45 * (d + 1) + 282; omega⟩ rfl (Nat.le_of_ble_eq_true rfl) dX7_value_238) hf (fun e238 h c hf => ?_) (fun r14 h c hf => ?_)
    · exact sj_outX hf rfl (by intro x hx; cases hx)
    refine sj_cV (rest := [.ref o13]) (fun _ _ _ e => sj_runI (n := 3) (a := o13) (As := [.ref p12, .ref r11, .ref r14]) (rest := [.ref o13]) (sX18_init l G o13 p12 r11 r14 h _ _ _ e) rfl rfl q1948 q1949 q170 q1950 rfl (by decide +kernel) rfl rfl (fun _ z => by cases z) ⟨by show 2 + 1 ≤ d + 1 + 10; omega, by show 8 + (4 + 11) + 32 ≤ 45 * (d + 1) + 282; omega⟩ rfl (Nat.le_of_ble_eq_true rfl) dX7_value_241) hf (fun h c hf => ?_)
    refine sj_astore_n [(2, .ref o13), (1, .ref p12), (0, .ref w0)] dX7_value_244 (by decide) rfl ?_
    refine sj_aload_n 2 dX7_value_245 rfl ?_
    refine sj_ldcSw 19 rfl dX7_value_246 ?_
    obtain ⟨fs249, he249, hf⟩ := sd_isC_some hf
    refine sj_xV (rest := []) (fun _ _ _ e => sj_runV (n := 1) (As := [.ref (sd_ad G 119)]) (rest := []) (sX7_close l hl G w0 (sd_ad G 119) h _ _ _ e) he249 rfl rfl rfl rfl q1917 q1919 qs28 q134 q1920 (by decide +kernel) rfl rfl ⟨by show 7 + 1 ≤ d + 1 + 10; omega, by show 8 + (2 + 11) + 127 ≤ 45 * (d + 1) + 282; omega⟩ rfl (Nat.le_of_ble_eq_true rfl) dX7_value_249) hf (fun e249 h c hf => ?_) (fun h c hf => ?_)
    · exact sj_outX hf rfl (by intro x hx; cases hx)
    refine sj_aload_n 0 dX7_value_252 rfl ?_
    exact sj_aret (o := (sd_ox sd_oR)) hf rfl rfl rfl (Or.inl ⟨_, rfl⟩) dX7_value_253
def fX7_value_b40 (G : sd_G) (R : TRP) (k40 : Nat × Nat × Int32 × Int32 → sd_M (Nat ⊕ Nat)) (w0 : Nat) (w1 : Nat) (w2 : Int32) (w3 : Int32) : sd_M (Nat ⊕ Nat) :=
  if w2 ≤ w3 then (
    sd_bnd (sd_isC G 6 w0) fun _ =>
    sd_bnd (fX7_takeIf G w0 (sd_ad G 117)) fun r4 =>
    if r4 = 0 then (
      sd_bnd (sd_isC G 6 w0) fun _ =>
      sd_bnd (fX7_now G w0) fun r5 =>
      sd_bnd (sd_isC G 8 r5) fun _ =>
      sd_bnd (fX9_is G r5 (sd_ad G 120)) fun r6 =>
      if r6 = 0 then (
        sd_bnd (sd_cget G 3 (sd_ad G 12)) fun v7 =>
        sd_bnd (sd_isC G 6 w0) fun _ =>
        sd_bnd (fX7_takeIf G w0 v7) fun r8 =>
        if r8 = 0 then (
          sd_bnd (sd_cget G 3 (sd_ad G 13)) fun v9 =>
          sd_bnd (sd_isC G 6 w0) fun _ =>
          sd_bnd (fX7_takeIf G w0 v9) fun r10 =>
          if r10 = 0 then (
            fX7_value_b208 G R w0 none)
          else (
            fX7_value_b208 G R w0 (sd_ad G 13)))
        else (
          fX7_value_b208 G R w0 (sd_ad G 12)))
      else (
        sd_bnd (sd_isC G 6 w0) fun _ =>
        sd_bx (fX7_deeper G w0 (sd_ad G 120)) (fun e142 =>
          sd_ret (.inr e142)) fun _ =>
        sd_bnd (sd_new 15 1 [.null]) fun o15 =>
        sd_bnd (sd_isC G 6 w0) fun _ =>
        sd_bx (R.2.2.2.2.2 w0) (fun e150 =>
          sd_ret (.inr e150)) fun r16 =>
        sd_bnd (fX17_init G o15 r16) fun _ =>
        sd_bnd (sd_getI G 6 2 w0) fun v17 =>
        sd_bnd (sd_put 6 2 .int w0 (.int (v17 - 1))) fun _ =>
        sd_ret (.inl o15)))
    else (
      sd_bnd (sd_isC G 6 w0) fun _ =>
      sd_bx (fX7_deeper G w0 (sd_ad G 118)) (fun e101 =>
        sd_ret (.inr e101)) fun _ =>
      sd_bnd (sd_isC G 6 w0) fun _ =>
      sd_bx (R.2.2.2.1 w0) (fun e105 =>
        sd_ret (.inr e105)) fun r18 =>
      sd_bnd (sd_isC G 6 w0) fun _ =>
      sd_bx (fX7_close G w0 (sd_ad G 119)) (fun e113 =>
        sd_ret (.inr e113)) fun _ =>
      sd_bnd (sd_new 14 1 [.null]) fun o19 =>
      sd_bnd (fX16_init G o19 r18) fun _ =>
      sd_ret (.inl o19)))
  else (
    sd_bnd (sd_aldR G 8 w1 w3) fun v20 =>
    sd_bnd (sd_cget G 1 v20) fun v21 =>
    sd_bnd (sd_isC G 6 w0) fun _ =>
    sd_bnd (fX7_takeIf G w0 v21) fun r22 =>
    if r22 = 0 then (
      sd_bnd (sd_ret (w3 + 1)) fun x23 =>
      k40 (w0, w1, w2, x23))
    else (
      sd_bnd (sd_new 13 2 [.null, .int 0]) fun o24 =>
      sd_bnd (sd_cget G 2 v20) fun v25 =>
      sd_bnd (sd_isC G 6 w0) fun _ =>
      sd_bx (fX7_which G w0 v25) (fun e74 =>
        sd_ret (.inr e74)) fun r26 =>
      sd_bnd (fX15_init G o24 v20 r26) fun _ =>
      sd_ret (.inl o24)))
set_option maxHeartbeats 4000000 in
theorem sX7_value_b40 (l : Launch) (hl : l.stackTraces = false) (G : sd_G) (d : Nat) (R : TRP) (HR : HRP l G d R) (a0 : Nat) (ρ : Nat ⊕ Nat) (h2 : sd_H) (cT : Nat × Nat) (k40 : Nat × Nat × Int32 × Int32 → sd_M (Nat ⊕ Nat)) (Hk40 : ∀ (q : Nat × Nat × Int32 × Int32) (h : sd_H) (c : Nat × Nat), k40 q h = some (ρ, c, h2) → sd_J mX7_value ((l, G), (d + 1 + 10, 45 * (d + 1) + 282), [.ref a0], ((sd_ox sd_oR) ρ, h2), cT) 40 [(0, .ref q.1), (1, .ref q.2.1), (2, .int q.2.2.1), (3, .int q.2.2.2)] [] h c) (w0 : Nat) (w1 : Nat) (w2 : Int32) (w3 : Int32) (h : sd_H) (c : Nat × Nat) (hf : fX7_value_b40 G R k40 w0 w1 w2 w3 h = some (ρ, c, h2)) : sd_J mX7_value ((l, G), (d + 1 + 10, 45 * (d + 1) + 282), [.ref a0], ((sd_ox sd_oR) ρ, h2), cT) 40 [(0, .ref w0), (1, .ref w1), (2, .int w2), (3, .int w3)] [] h c := by
  unfold fX7_value_b40 at hf
  refine sj_iload_n 3 dX7_value_40 rfl ?_
  refine sj_iload_n 2 dX7_value_41 rfl ?_
  refine sj_icge 87 hf dX7_value_42 (by decide) (fun g42 hf => ?_) (fun g42 hf => ?_)
  · refine sj_aload_n 0 dX7_value_87 rfl ?_
    refine sj_ldcSw 17 rfl dX7_value_88 ?_
    obtain ⟨fs91, he91, hf⟩ := sd_isC_some hf
    refine sj_cI (rest := []) (fun _ _ _ e => sj_runV (n := 1) (As := [.ref (sd_ad G 117)]) (rest := []) (sX7_takeIf l G w0 (sd_ad G 117) h _ _ _ e) he91 rfl rfl rfl rfl q987 q989 qs6 q134 q990 (by decide +kernel) rfl rfl ⟨by show 4 + 1 ≤ d + 1 + 10; omega, by show 8 + (3 + 11) + 84 ≤ 45 * (d + 1) + 282; omega⟩ rfl (Nat.le_of_ble_eq_true rfl) dX7_value_91) hf (fun r4 h c hf => ?_)
    refine sj_ifeq 125 hf dX7_value_94 (by decide) (fun g94 hf => ?_) (fun g94 hf => ?_)
    · refine sj_aload_n 0 dX7_value_125 rfl ?_
      obtain ⟨fs126, he126, hf⟩ := sd_isC_some hf
      refine sj_cR (rest := []) (fun _ _ _ e => sj_runV (n := 0) (As := []) (rest := []) (sX7_now l G w0 h _ _ _ e) he126 rfl rfl rfl rfl q991 q993 qs7 q134 q994 (by decide +kernel) rfl rfl ⟨by show 3 + 1 ≤ d + 1 + 10; omega, by show 8 + (1 + 11) + 64 ≤ 45 * (d + 1) + 282; omega⟩ rfl (Nat.le_of_ble_eq_true rfl) dX7_value_126) hf (fun r5 h c hf => ?_)
      refine sj_ldcSw 20 rfl dX7_value_129 ?_
      obtain ⟨fs132, he132, hf⟩ := sd_isC_some hf
      refine sj_cI (rest := []) (fun _ _ _ e => sj_runV (n := 1) (As := [.ref (sd_ad G 120)]) (rest := []) (sX9_is l G r5 (sd_ad G 120) h _ _ _ e) he132 rfl rfl rfl rfl q1014 q1015 q1016 q136 q1017 (by decide +kernel) rfl rfl ⟨by show 2 + 1 ≤ d + 1 + 10; omega, by show 8 + (2 + 11) + 44 ≤ 45 * (d + 1) + 282; omega⟩ rfl (Nat.le_of_ble_eq_true rfl) dX7_value_132) hf (fun r6 h c hf => ?_)
      refine sj_ifeq 169 hf dX7_value_135 (by decide) (fun g135 hf => ?_) (fun g135 hf => ?_)
      · refine sj_aload_n 0 dX7_value_169 rfl ?_
        refine sj_gets (v := .ref (sd_ad G 12)) 28 rfl rfl ⟨Or.inl q1942, rfl⟩ dX7_value_170 ?_
        refine sj_cget 3 rfl (Or.inr ⟨_, q3524⟩) hf dX7_value_173 (fun v7 hf => ?_)
        obtain ⟨fs176, he176, hf⟩ := sd_isC_some hf
        refine sj_cI (rest := []) (fun _ _ _ e => sj_runV (n := 1) (As := [.ref v7]) (rest := []) (sX7_takeIf l G w0 v7 h _ _ _ e) he176 rfl rfl rfl rfl q987 q989 qs6 q134 q990 (by decide +kernel) rfl rfl ⟨by show 4 + 1 ≤ d + 1 + 10; omega, by show 8 + (3 + 11) + 84 ≤ 45 * (d + 1) + 282; omega⟩ rfl (Nat.le_of_ble_eq_true rfl) dX7_value_176) hf (fun r8 h c hf => ?_)
        refine sj_ifeq 188 hf dX7_value_179 (by decide) (fun g179 hf => ?_) (fun g179 hf => ?_)
        · refine sj_aload_n 0 dX7_value_188 rfl ?_
          refine sj_gets (v := .ref (sd_ad G 13)) 29 rfl rfl ⟨Or.inl q1944, rfl⟩ dX7_value_189 ?_
          refine sj_cget 3 rfl (Or.inr ⟨_, q3524⟩) hf dX7_value_192 (fun v9 hf => ?_)
          obtain ⟨fs195, he195, hf⟩ := sd_isC_some hf
          refine sj_cI (rest := []) (fun _ _ _ e => sj_runV (n := 1) (As := [.ref v9]) (rest := []) (sX7_takeIf l G w0 v9 h _ _ _ e) he195 rfl rfl rfl rfl q987 q989 qs6 q134 q990 (by decide +kernel) rfl rfl ⟨by show 4 + 1 ≤ d + 1 + 10; omega, by show 8 + (3 + 11) + 84 ≤ 45 * (d + 1) + 282; omega⟩ rfl (Nat.le_of_ble_eq_true rfl) dX7_value_195) hf (fun r10 h c hf => ?_)
          refine sj_ifeq 207 hf dX7_value_198 (by decide) (fun g198 hf => ?_) (fun g198 hf => ?_)
          · refine sj_null dX7_value_207 ?_
            exact sj_loc [0] rfl (sX7_value_b208 l hl G d R HR a0 ρ h2 cT w0 none _ _ hf)
          · refine sj_gets (v := .ref (sd_ad G 13)) 29 rfl rfl ⟨Or.inl q1944, rfl⟩ dX7_value_201 ?_
            refine sj_goto 208 dX7_value_204 (by decide) ?_
            exact sj_loc [0] rfl (sX7_value_b208 l hl G d R HR a0 ρ h2 cT w0 (sd_ad G 13) _ _ hf)
        · refine sj_gets (v := .ref (sd_ad G 12)) 28 rfl rfl ⟨Or.inl q1942, rfl⟩ dX7_value_182 ?_
          refine sj_goto 208 dX7_value_185 (by decide) ?_
          exact sj_loc [0] rfl (sX7_value_b208 l hl G d R HR a0 ρ h2 cT w0 (sd_ad G 12) _ _ hf)
      · refine sj_aload_n 0 dX7_value_138 rfl ?_
        refine sj_ldcSw 20 rfl dX7_value_139 ?_
        obtain ⟨fs142, he142, hf⟩ := sd_isC_some hf
        refine sj_xV (rest := []) (fun _ _ _ e => sj_runV (n := 1) (As := [.ref (sd_ad G 120)]) (rest := []) (sX7_deeper l hl G w0 (sd_ad G 120) h _ _ _ e) he142 rfl rfl rfl rfl q1912 q1914 qs27 q134 q1915 (by decide +kernel) rfl rfl ⟨by show 6 + 1 ≤ d + 1 + 10; omega, by show 8 + (2 + 11) + 104 ≤ 45 * (d + 1) + 282; omega⟩ rfl (Nat.le_of_ble_eq_true rfl) dX7_value_142) hf (fun e142 h c hf => ?_) (fun h c hf => ?_)
        · exact sj_outX hf rfl (by intro x hx; cases hx)
        refine sj_new fnX7_407 hf dX7_value_145 (fun o15 h c hf => ?_)
        refine sj_dup dX7_value_148 rfl ?_
        refine sj_aload_n 0 dX7_value_149 rfl ?_
        obtain ⟨fs150, he150, hf⟩ := sd_isC_some hf
        refine sj_xR (rest := [.ref o15, .ref o15]) (fun _ _ _ e => sj_runV (n := 0) (As := []) (rest := [.ref o15, .ref o15]) (HR.2.2.2.2.2 w0 h _ _ _ e) he150 rfl rfl rfl rfl q1872 q1874 qs25 q134 q1875 (by decide +kernel) rfl rfl ⟨by show d + 10 + 1 ≤ d + 1 + 10; omega, by show 8 + (5 + 11) + (45 * d + 282) ≤ 45 * (d + 1) + 282; omega⟩ rfl (Nat.le_of_ble_eq_true rfl) dX7_value_150) hf (fun e150 h c hf => ?_) (fun r16 h c hf => ?_)
        · exact sj_outX hf rfl (by intro x hx; cases hx)
        refine sj_cV (rest := [.ref o15]) (fun _ _ _ e => sj_runI (n := 1) (a := o15) (As := [.ref r16]) (rest := [.ref o15]) (sX17_init l G o15 r16 h _ _ _ e) rfl rfl q1934 q1935 q168 q1936 rfl (by decide +kernel) rfl rfl (fun _ z => by cases z) ⟨by show 2 + 1 ≤ d + 1 + 10; omega, by show 8 + (2 + 11) + 32 ≤ 45 * (d + 1) + 282; omega⟩ rfl (Nat.le_of_ble_eq_true rfl) dX7_value_153) hf (fun h c hf => ?_)
        refine sj_astore_n [(1, .ref o15), (0, .ref w0), (2, .int w2), (3, .int w3)] dX7_value_156 (by decide) rfl ?_
        refine sj_aload_n 1 dX7_value_157 rfl ?_
        refine sj_dup dX7_value_158 rfl ?_
        refine sj_getI fdX7_66_6 hf dX7_value_159 (fun v17 hf => ?_)
        refine sj_iconst (v := 1) dX7_value_162 (by decide) ?_
        refine sj_isub dX7_value_163 ?_
        refine sj_put (fpX7_66_6 _ _) hf dX7_value_164 (fun h hf => ?_)
        refine sj_aload_n 0 dX7_value_167 rfl ?_
        exact sj_aret (o := (sd_ox sd_oR)) hf rfl rfl rfl (Or.inl ⟨_, rfl⟩) dX7_value_168
    · refine sj_aload_n 0 dX7_value_97 rfl ?_
      refine sj_ldcSw 18 rfl dX7_value_98 ?_
      obtain ⟨fs101, he101, hf⟩ := sd_isC_some hf
      refine sj_xV (rest := []) (fun _ _ _ e => sj_runV (n := 1) (As := [.ref (sd_ad G 118)]) (rest := []) (sX7_deeper l hl G w0 (sd_ad G 118) h _ _ _ e) he101 rfl rfl rfl rfl q1912 q1914 qs27 q134 q1915 (by decide +kernel) rfl rfl ⟨by show 6 + 1 ≤ d + 1 + 10; omega, by show 8 + (2 + 11) + 104 ≤ 45 * (d + 1) + 282; omega⟩ rfl (Nat.le_of_ble_eq_true rfl) dX7_value_101) hf (fun e101 h c hf => ?_) (fun h c hf => ?_)
      · exact sj_outX hf rfl (by intro x hx; cases hx)
      refine sj_aload_n 0 dX7_value_104 rfl ?_
      obtain ⟨fs105, he105, hf⟩ := sd_isC_some hf
      refine sj_xR (rest := []) (fun _ _ _ e => sj_runV (n := 0) (As := []) (rest := []) (HR.2.2.2.1 w0 h _ _ _ e) he105 rfl rfl rfl rfl q1864 q1866 qs23 q134 q1867 (by decide +kernel) rfl rfl ⟨by show d + 10 + 1 ≤ d + 1 + 10; omega, by show 8 + (3 + 11) + (45 * d + 282) ≤ 45 * (d + 1) + 282; omega⟩ rfl (Nat.le_of_ble_eq_true rfl) dX7_value_105) hf (fun e105 h c hf => ?_) (fun r18 h c hf => ?_)
      · exact sj_outX hf rfl (by intro x hx; cases hx)
      refine sj_astore_n [(1, .ref r18), (0, .ref w0), (2, .int w2), (3, .int w3)] dX7_value_108 (by decide) rfl ?_
      refine sj_aload_n 1 dX7_value_109 rfl ?_
      refine sj_ldcSw 19 rfl dX7_value_110 ?_
      obtain ⟨fs113, he113, hf⟩ := sd_isC_some hf
      refine sj_xV (rest := []) (fun _ _ _ e => sj_runV (n := 1) (As := [.ref (sd_ad G 119)]) (rest := []) (sX7_close l hl G w0 (sd_ad G 119) h _ _ _ e) he113 rfl rfl rfl rfl q1917 q1919 qs28 q134 q1920 (by decide +kernel) rfl rfl ⟨by show 7 + 1 ≤ d + 1 + 10; omega, by show 8 + (2 + 11) + 127 ≤ 45 * (d + 1) + 282; omega⟩ rfl (Nat.le_of_ble_eq_true rfl) dX7_value_113) hf (fun e113 h c hf => ?_) (fun h c hf => ?_)
      · exact sj_outX hf rfl (by intro x hx; cases hx)
      refine sj_new fnX7_404 hf dX7_value_116 (fun o19 h c hf => ?_)
      refine sj_dup dX7_value_119 rfl ?_
      refine sj_aload_n 0 dX7_value_120 rfl ?_
      refine sj_cV (rest := [.ref o19]) (fun _ _ _ e => sj_runI (n := 1) (a := o19) (As := [.ref r18]) (rest := [.ref o19]) (sX16_init l G o19 r18 h _ _ _ e) rfl rfl q1923 q1924 q167 q1925 rfl (by decide +kernel) rfl rfl (fun _ z => by cases z) ⟨by show 2 + 1 ≤ d + 1 + 10; omega, by show 8 + (2 + 11) + 32 ≤ 45 * (d + 1) + 282; omega⟩ rfl (Nat.le_of_ble_eq_true rfl) dX7_value_121) hf (fun h c hf => ?_)
      exact sj_aret (o := (sd_ox sd_oR)) hf rfl rfl rfl (Or.inl ⟨_, rfl⟩) dX7_value_124
  · refine sj_aload_n 1 dX7_value_45 rfl ?_
    refine sj_iload_n 3 dX7_value_46 rfl ?_
    refine sj_aald rfl rfl hf dX7_value_47 (fun v20 hf => ?_)
    refine sj_astore [(4, .ref v20), (0, .ref w0), (1, .ref w1), (2, .int w2), (3, .int w3)] dX7_value_48 (by decide) rfl ?_
    refine sj_aload_n 1 dX7_value_50 rfl ?_
    refine sj_aload 0 dX7_value_51 rfl ?_
    refine sj_cget 1 rfl (Or.inr ⟨_, q3522⟩) hf dX7_value_53 (fun v21 hf => ?_)
    obtain ⟨fs56, he56, hf⟩ := sd_isC_some hf
    refine sj_cI (rest := []) (fun _ _ _ e => sj_runV (n := 1) (As := [.ref v21]) (rest := []) (sX7_takeIf l G w0 v21 h _ _ _ e) he56 rfl rfl rfl rfl q987 q989 qs6 q134 q990 (by decide +kernel) rfl rfl ⟨by show 4 + 1 ≤ d + 1 + 10; omega, by show 8 + (3 + 11) + 84 ≤ 45 * (d + 1) + 282; omega⟩ rfl (Nat.le_of_ble_eq_true rfl) dX7_value_56) hf (fun r22 h c hf => ?_)
    refine sj_ifeq 81 hf dX7_value_59 (by decide) (fun g59 hf => ?_) (fun g59 hf => ?_)
    · refine sj_iincN 4 (fun x23 => [(3, .int x23), (4, .ref v20), (0, .ref w0), (1, .ref w1), (2, .int w2)]) 1 hf dX7_value_81 rfl (by decide) (by decide) (fun _ => rfl) (fun x23 hf => ?_)
      refine sj_goto 40 dX7_value_84 (by decide) ?_
      exact sj_loc [2, 3, 4, 0] rfl (Hk40 (w0, w1, w2, x23) _ _ hf)
    · refine sj_new fnX7_386 hf dX7_value_62 (fun o24 h c hf => ?_)
      refine sj_dup dX7_value_65 rfl ?_
      refine sj_aload 0 dX7_value_66 rfl ?_
      refine sj_aload_n 1 dX7_value_68 rfl ?_
      refine sj_aload 0 dX7_value_69 rfl ?_
      refine sj_cget 2 rfl (Or.inr ⟨_, q3523⟩) hf dX7_value_71 (fun v25 hf => ?_)
      obtain ⟨fs74, he74, hf⟩ := sd_isC_some hf
      refine sj_xI (rest := [.ref v20, .ref o24, .ref o24]) (fun _ _ _ e => sj_runV (n := 1) (As := [.ref v25]) (rest := [.ref v20, .ref o24, .ref o24]) (sX7_which l hl G w0 v25 h _ _ _ e) he74 rfl rfl rfl rfl q1893 q1895 qs26 q134 q1896 (by decide +kernel) rfl rfl ⟨by show 8 + 1 ≤ d + 1 + 10; omega, by show 8 + (2 + 11) + 182 ≤ 45 * (d + 1) + 282; omega⟩ rfl (Nat.le_of_ble_eq_true rfl) dX7_value_74) hf (fun e74 h c hf => ?_) (fun r26 h c hf => ?_)
      · exact sj_outX hf rfl (by intro x hx; cases hx)
      refine sj_cV (rest := [.ref o24]) (fun _ _ _ e => sj_runI (n := 2) (a := o24) (As := [.ref v20, .int r26]) (rest := [.ref o24]) (sX15_init l G o24 v20 r26 h _ _ _ e) rfl rfl q1899 q1900 q165 q1901 rfl (by decide +kernel) rfl rfl (fun _ z => by cases z) ⟨by show 2 + 1 ≤ d + 1 + 10; omega, by show 8 + (3 + 11) + 32 ≤ 45 * (d + 1) + 282; omega⟩ rfl (Nat.le_of_ble_eq_true rfl) dX7_value_77) hf (fun h c hf => ?_)
      exact sj_aret (o := (sd_ox sd_oR)) hf rfl rfl rfl (Or.inl ⟨_, rfl⟩) dX7_value_80
theorem sX7_value_b40_loop (l : Launch) (hl : l.stackTraces = false) (G : sd_G) (d : Nat) (R : TRP) (HR : HRP l G d R) (a0 : Nat) (ρ : Nat ⊕ Nat) (h2 : sd_H) (cT : Nat × Nat) (n : Nat) : ∀ (q : Nat × Nat × Int32 × Int32) (h : sd_H) (c : Nat × Nat), sd_loop (fun k s => fX7_value_b40 G R k s.1 s.2.1 s.2.2.1 s.2.2.2) n q h = some (ρ, c, h2) → sd_J mX7_value ((l, G), (d + 1 + 10, 45 * (d + 1) + 282), [.ref a0], ((sd_ox sd_oR) ρ, h2), cT) 40 [(0, .ref q.1), (1, .ref q.2.1), (2, .int q.2.2.1), (3, .int q.2.2.2)] [] h c := by
  induction n with
  | zero => intro q h c hf; cases hf
  | succ n ih => intro q h c hf; exact sX7_value_b40 l hl G d R HR a0 ρ h2 cT _ ih _ _ _ _ _ _ hf
def fX7_value (G : sd_G) (R : TRP) (a0 : Nat) : sd_M (Nat ⊕ Nat) :=
  sd_bnd (sd_isC G 6 a0) fun _ =>
  sd_bnd (fX7_now G a0) fun r1 =>
  sd_bnd (sd_getR G 8 0 r1) fun v2 =>
  if v2 = (sd_ad G 5) then (
    sd_bnd (sd_new 12 1 [.int 0]) fun o27 =>
    sd_bnd (sd_isC G 6 a0) fun _ =>
    sd_bx (fX7_take G a0 (sd_ad G 5)) (fun e21 =>
      sd_ret (.inr e21)) fun r28 =>
    sd_bnd (sd_isC G 8 r28) fun _ =>
    sd_bnd (fX9_number G r28) fun r29 =>
    sd_bnd (fX14_init G o27 r29) fun _ =>
    sd_ret (.inl o27))
  else (
    sd_bnd (sd_alen G (sd_ad G 10)) fun v3 =>
    sd_loop (fun k s => fX7_value_b40 G R k s.1 s.2.1 s.2.2.1 s.2.2.2) sd_FU (a0, (sd_ad G 10), v3, 0))
set_option maxHeartbeats 4000000 in
theorem sX7_value (l : Launch) (hl : l.stackTraces = false) (G : sd_G) (d : Nat) (R : TRP) (HR : HRP l G d R) (a0 : Nat) (h : sd_H) (ρ : Nat ⊕ Nat) (cT : Nat × Nat) (h2 : sd_H) (hf : fX7_value G R a0 h = some (ρ, cT, h2)) : sd_Met mX7_value ((l, G), (d + 1 + 10, 45 * (d + 1) + 282), [.ref a0], ((sd_ox sd_oR) ρ, h2), cT) h := by
  refine sd_entry (plainFor_of_name rfl) rfl (Nat.le_of_ble_eq_true rfl) ?_
  show sd_J mX7_value ((l, G), (d + 1 + 10, 45 * (d + 1) + 282), [.ref a0], ((sd_ox sd_oR) ρ, h2), cT) 0 [(0, .ref a0)] [] h cT
  unfold fX7_value at hf
  refine sj_aload_n 0 dX7_value_0 rfl ?_
  obtain ⟨fs1, he1, hf⟩ := sd_isC_some hf
  refine sj_cR (rest := []) (fun _ _ _ e => sj_runV (n := 0) (As := []) (rest := []) (sX7_now l G a0 h _ _ _ e) he1 rfl rfl rfl rfl q991 q993 qs7 q134 q994 (by decide +kernel) rfl rfl ⟨by show 3 + 1 ≤ d + 1 + 10; omega, by show 8 + (1 + 11) + 64 ≤ 45 * (d + 1) + 282; omega⟩ rfl (Nat.le_of_ble_eq_true rfl) dX7_value_1) hf (fun r1 h c hf => ?_)
  refine sj_getR fdX7_62_8 hf dX7_value_4 (fun v2 hf => ?_)
  refine sj_gets (v := .ref (sd_ad G 5)) 12 rfl rfl ⟨Or.inl q1025, rfl⟩ dX7_value_7 ?_
  refine sj_acneR 31 hf dX7_value_10 (by decide) (fun g10 hf => ?_) (fun g10 hf => ?_)
  · refine sj_gets (v := .ref (sd_ad G 10)) 26 rfl rfl ⟨Or.inr ⟨_, q1889⟩, rfl⟩ dX7_value_31 ?_
    refine sj_astore_n [(1, .ref (sd_ad G 10)), (0, .ref a0)] dX7_value_34 (by decide) rfl ?_
    refine sj_aload_n 0 dX7_value_35 rfl ?_
    refine sj_alen hf dX7_value_36 (fun v3 hf => ?_)
    refine sj_istore_n [(2, .int v3), (1, .ref (sd_ad G 10)), (0, .ref a0)] dX7_value_37 (by decide) rfl ?_
    refine sj_iconst (v := 0) dX7_value_38 (by decide) ?_
    refine sj_istore_n [(3, .int 0), (2, .int v3), (1, .ref (sd_ad G 10)), (0, .ref a0)] dX7_value_39 (by decide) rfl ?_
    exact sj_loc [3, 2, 1, 0] rfl (sX7_value_b40_loop l hl G d R HR a0 ρ h2 cT sd_FU (a0, (sd_ad G 10), v3, 0) _ _ hf)
  · refine sj_new fnX7_377 hf dX7_value_13 (fun o27 h c hf => ?_)
    refine sj_dup dX7_value_16 rfl ?_
    refine sj_aload_n 0 dX7_value_17 rfl ?_
    refine sj_gets (v := .ref (sd_ad G 5)) 12 rfl rfl ⟨Or.inl q1025, rfl⟩ dX7_value_18 ?_
    obtain ⟨fs21, he21, hf⟩ := sd_isC_some hf
    refine sj_xR (rest := [.ref o27, .ref o27]) (fun _ _ _ e => sj_runV (n := 1) (As := [.ref (sd_ad G 5)]) (rest := [.ref o27, .ref o27]) (sX7_take l hl G a0 (sd_ad G 5) h _ _ _ e) he21 rfl rfl rfl rfl q1026 q1028 qs9 q134 q1029 (by decide +kernel) rfl rfl ⟨by show 6 + 1 ≤ d + 1 + 10; omega, by show 8 + (3 + 11) + 104 ≤ 45 * (d + 1) + 282; omega⟩ rfl (Nat.le_of_ble_eq_true rfl) dX7_value_21) hf (fun e21 h c hf => ?_) (fun r28 h c hf => ?_)
    · exact sj_outX hf rfl (by intro x hx; cases hx)
    obtain ⟨fs24, he24, hf⟩ := sd_isC_some hf
    refine sj_cI (rest := [.ref o27, .ref o27]) (fun _ _ _ e => sj_runV (n := 0) (As := []) (rest := [.ref o27, .ref o27]) (sX9_number l G r28 h _ _ _ e) he24 rfl rfl rfl rfl q1060 q1061 q1062 q136 q1063 (by decide +kernel) rfl rfl ⟨by show 4 + 1 ≤ d + 1 + 10; omega, by show 8 + (3 + 11) + 85 ≤ 45 * (d + 1) + 282; omega⟩ rfl (Nat.le_of_ble_eq_true rfl) dX7_value_24) hf (fun r29 h c hf => ?_)
    refine sj_cV (rest := [.ref o27]) (fun _ _ _ e => sj_runI (n := 1) (a := o27) (As := [.int r29]) (rest := [.ref o27]) (sX14_init l G o27 r29 h _ _ _ e) rfl rfl q1878 q1879 q163 q1880 rfl (by decide +kernel) rfl rfl (fun _ z => by cases z) ⟨by show 2 + 1 ≤ d + 1 + 10; omega, by show 8 + (2 + 11) + 32 ≤ 45 * (d + 1) + 282; omega⟩ rfl (Nat.le_of_ble_eq_true rfl) dX7_value_27) hf (fun h c hf => ?_)
    exact sj_aret (o := (sd_ox sd_oR)) hf rfl rfl rfl (Or.inl ⟨_, rfl⟩) dX7_value_30
def pRP (G : sd_G) : Nat → TRP
  | 0 => (fun _ => sd_fail, fun _ => sd_fail, fun _ => sd_fail, fun _ => sd_fail, fun _ => sd_fail, fun _ => sd_fail)
  | d + 1 => (fun a0 => fX7_test G (pRP G d) a0,
    fun a0 => fX7_both G (pRP G d) a0,
    fun a0 => fX7_single G (pRP G d) a0,
    fun a0 => fX7_sum G (pRP G d) a0,
    fun a0 => fX7_product G (pRP G d) a0,
    fun a0 => fX7_value G (pRP G d) a0)
theorem spRP (l : Launch) (hl : l.stackTraces = false) (G : sd_G) : ∀ d, HRP l G d (pRP G d)
  | 0 => ⟨fun _ _ _ _ _ e => (by cases e), fun _ _ _ _ _ e => (by cases e), fun _ _ _ _ _ e => (by cases e), fun _ _ _ _ _ e => (by cases e), fun _ _ _ _ _ e => (by cases e), fun _ _ _ _ _ e => (by cases e)⟩
  | d + 1 => ⟨fun a0 h ρ cT h2 e => sX7_test l hl G d (pRP G d) (spRP l hl G d) a0 h ρ cT h2 e,
    fun a0 h ρ cT h2 e => sX7_both l hl G d (pRP G d) (spRP l hl G d) a0 h ρ cT h2 e,
    fun a0 h ρ cT h2 e => sX7_single l hl G d (pRP G d) (spRP l hl G d) a0 h ρ cT h2 e,
    fun a0 h ρ cT h2 e => sX7_sum l hl G d (pRP G d) (spRP l hl G d) a0 h ρ cT h2 e,
    fun a0 h ρ cT h2 e => sX7_product l hl G d (pRP G d) (spRP l hl G d) a0 h ρ cT h2 e,
    fun a0 h ρ cT h2 e => sX7_value l hl G d (pRP G d) (spRP l hl G d) a0 h ρ cT h2 e⟩
