set_option maxRecDepth 100000
theorem q141 : (Jvm.Cond.initialized "java/lang/String") ∈ lw_all := lw_g (lw_at lw_m1 26 rfl) rfl
theorem q143 : (Jvm.Cond.initialized "java/lang/StringLatin1") ∈ lw_all := lw_g (lw_at lw_m1 28 rfl) rfl
theorem q144 : (Jvm.Cond.initialized "jdk/internal/util/Preconditions") ∈ lw_all := lw_g (lw_at lw_m1 29 rfl) rfl
theorem q358 : (Jvm.Cond.code ({ cls := "java/lang/Math", name := "max", desc := "(II)I" } : Jvm.MethodName) prog_65_method_65_code (2 : Nat) (Option.some Jvm.ClassFile.FieldType.int)) ∈ lw_all := lw_g (lw_at lw_m2 3 rfl) rfl
theorem q433 : (Jvm.Cond.code ({ cls := "java/lang/Math", name := "min", desc := "(II)I" } : Jvm.MethodName) prog_65_method_69_code (2 : Nat) (Option.some Jvm.ClassFile.FieldType.int)) ∈ lw_all := lw_g (lw_at lw_m2 78 rfl) rfl
theorem q613 : (Jvm.Cond.fieldLink "java/lang/String" (1053 : Nat) "jdk/internal/util/Preconditions" "SIOOBE_FORMATTER" "Ljava/util/function/BiFunction;") ∈ lw_all := lw_g (lw_at lw_m3 18 rfl) rfl
theorem q634 : (Jvm.Cond.static ({ cls := "java/lang/String", name := "checkIndex", desc := "(II)V" } : Jvm.MethodName)) ∈ lw_all := lw_g (lw_at lw_m3 39 rfl) rfl
theorem q635 : (Jvm.Cond.code ({ cls := "java/lang/String", name := "checkIndex", desc := "(II)V" } : Jvm.MethodName) prog_68_method_155_code (2 : Nat) (Option.none : Option Jvm.ClassFile.FieldType)) ∈ lw_all := lw_g (lw_at lw_m3 40 rfl) rfl
theorem q636 : (Jvm.Cond.methodLink "java/lang/String" (1059 : Nat) ({ cls := "jdk/internal/util/Preconditions", name := "checkIndex", desc := "(IILjava/util/function/BiFunction;)I" } : Jvm.MethodName)) ∈ lw_all := lw_g (lw_at lw_m3 41 rfl) rfl
theorem q637 : (Jvm.Cond.static ({ cls := "jdk/internal/util/Preconditions", name := "checkIndex", desc := "(IILjava/util/function/BiFunction;)I" } : Jvm.MethodName)) ∈ lw_all := lw_g (lw_at lw_m3 42 rfl) rfl
theorem q638 : (Jvm.Cond.code ({ cls := "jdk/internal/util/Preconditions", name := "checkIndex", desc := "(IILjava/util/function/BiFunction;)I" } : Jvm.MethodName) prog_99_method_11_code (3 : Nat) (Option.some Jvm.ClassFile.FieldType.int)) ∈ lw_all := lw_g (lw_at lw_m3 43 rfl) rfl
theorem q772 : (Jvm.Cond.code ({ cls := "java/lang/String", name := "length", desc := "()I" } : Jvm.MethodName) prog_68_method_54_code (1 : Nat) (Option.some Jvm.ClassFile.FieldType.int)) ∈ lw_all := lw_g (lw_at lw_m3 177 rfl) rfl
theorem q773 : (Jvm.Cond.methodLink "java/lang/String" (335 : Nat) ({ cls := "java/lang/String", name := "coder", desc := "()B" } : Jvm.MethodName)) ∈ lw_all := lw_g (lw_at lw_m3 178 rfl) rfl
theorem q774 : (Jvm.Cond.instanceMethod ({ cls := "java/lang/String", name := "coder", desc := "()B" } : Jvm.MethodName)) ∈ lw_all := lw_g (lw_at lw_m3 179 rfl) rfl
theorem q775 : (Jvm.Cond.selects "java/lang/String" ({ cls := "java/lang/String", name := "coder", desc := "()B" } : Jvm.MethodName) ({ cls := "java/lang/String", name := "coder", desc := "()B" } : Jvm.MethodName)) ∈ lw_all := lw_g (lw_at lw_m3 180 rfl) rfl
theorem q776 : (Jvm.Cond.code ({ cls := "java/lang/String", name := "coder", desc := "()B" } : Jvm.MethodName) prog_68_method_152_code (1 : Nat) (Option.some Jvm.ClassFile.FieldType.byte)) ∈ lw_all := lw_g (lw_at lw_m3 181 rfl) rfl
theorem q777 : (Jvm.Cond.fieldLink "java/lang/String" (38 : Nat) "java/lang/String" "COMPACT_STRINGS" "Z") ∈ lw_all := lw_g (lw_at lw_m3 182 rfl) rfl
theorem q832 : (Jvm.Cond.fieldLink "java/lang/String" (9 : Nat) "java/lang/String" "value" "[B") ∈ lw_all := lw_g (lw_at lw_m3 237 rfl) rfl
theorem q833 : (Jvm.Cond.fieldLink "java/lang/String" (15 : Nat) "java/lang/String" "coder" "B") ∈ lw_all := lw_g (lw_at lw_m3 238 rfl) rfl
theorem q874 : (Jvm.Cond.methodLink "java/lang/String" (492 : Nat) ({ cls := "java/lang/String", name := "isLatin1", desc := "()Z" } : Jvm.MethodName)) ∈ lw_all := lw_g (lw_at lw_m4 39 rfl) rfl
theorem q875 : (Jvm.Cond.instanceMethod ({ cls := "java/lang/String", name := "isLatin1", desc := "()Z" } : Jvm.MethodName)) ∈ lw_all := lw_g (lw_at lw_m4 40 rfl) rfl
theorem q876 : (Jvm.Cond.selects "java/lang/String" ({ cls := "java/lang/String", name := "isLatin1", desc := "()Z" } : Jvm.MethodName) ({ cls := "java/lang/String", name := "isLatin1", desc := "()Z" } : Jvm.MethodName)) ∈ lw_all := lw_g (lw_at lw_m4 41 rfl) rfl
theorem q877 : (Jvm.Cond.code ({ cls := "java/lang/String", name := "isLatin1", desc := "()Z" } : Jvm.MethodName) prog_68_method_154_code (1 : Nat) (Option.some Jvm.ClassFile.FieldType.boolean)) ∈ lw_all := lw_g (lw_at lw_m4 42 rfl) rfl
theorem q1068 : (Jvm.Cond.code ({ cls := "java/lang/String", name := "charAt", desc := "(I)C" } : Jvm.MethodName) prog_68_method_56_code (2 : Nat) (Option.some Jvm.ClassFile.FieldType.char)) ∈ lw_all := lw_g (lw_at lw_m4 233 rfl) rfl
theorem q1069 : (Jvm.Cond.methodLink "java/lang/String" (495 : Nat) ({ cls := "java/lang/StringLatin1", name := "charAt", desc := "([BI)C" } : Jvm.MethodName)) ∈ lw_all := lw_g (lw_at lw_m4 234 rfl) rfl
theorem q1070 : (Jvm.Cond.static ({ cls := "java/lang/StringLatin1", name := "charAt", desc := "([BI)C" } : Jvm.MethodName)) ∈ lw_all := lw_g (lw_at lw_m4 235 rfl) rfl
theorem q1071 : (Jvm.Cond.code ({ cls := "java/lang/StringLatin1", name := "charAt", desc := "([BI)C" } : Jvm.MethodName) prog_70_method_2_code (2 : Nat) (Option.some Jvm.ClassFile.FieldType.char)) ∈ lw_all := lw_g (lw_at lw_m4 236 rfl) rfl
theorem q1072 : (Jvm.Cond.methodLink "java/lang/StringLatin1" (9 : Nat) ({ cls := "java/lang/String", name := "checkIndex", desc := "(II)V" } : Jvm.MethodName)) ∈ lw_all := lw_g (lw_at lw_m4 237 rfl) rfl
theorem q1438 : (Jvm.Cond.code ({ cls := "java/lang/Integer", name := "compare", desc := "(II)I" } : Jvm.MethodName) prog_61_method_40_code (2 : Nat) (Option.some Jvm.ClassFile.FieldType.int)) ∈ lw_all := lw_g (lw_at lw_m6 123 rfl) rfl
theorem q3166 : (Jvm.Cond.code ({ cls := "java/lang/Integer", name := "bitCount", desc := "(I)I" } : Jvm.MethodName) prog_61_method_49_code (1 : Nat) (Option.some Jvm.ClassFile.FieldType.int)) ∈ lw_all := lw_g (lw_at lw_m13 171 rfl) rfl
theorem q3167 : (Jvm.Cond.constant "java/lang/Integer" (265 : Nat) (1431655765 : Int32)) ∈ lw_all := lw_g (lw_at lw_m13 172 rfl) rfl
theorem q3168 : (Jvm.Cond.constant "java/lang/Integer" (266 : Nat) (858993459 : Int32)) ∈ lw_all := lw_g (lw_at lw_m13 173 rfl) rfl
theorem q3169 : (Jvm.Cond.constant "java/lang/Integer" (267 : Nat) (252645135 : Int32)) ∈ lw_all := lw_g (lw_at lw_m13 174 rfl) rfl
theorem q3367 : (Jvm.Cond.code ({ cls := "java/lang/Math", name := "floorMod", desc := "(II)I" } : Jvm.MethodName) prog_65_method_50_code (3 : Nat) (Option.some Jvm.ClassFile.FieldType.int)) ∈ lw_all := lw_g (lw_at lw_m14 132 rfl) rfl
/-! java/lang/Math.max(II)I -/
abbrev cJ4_max : ByteArray := prog_65_method_65_code
def yJ4_max : MethodName := ⟨RJ4, "max", "(II)I"⟩
def dkwJ4_max_0 : List UInt8 := [26, 27, 161, 0, 7, 26, 167, 0, 4, 27, 172]
abbrev dktJ4_max_0 : List UInt8 := dkwJ4_max_0 ++ []
theorem dksJ4_max_0 : cJ4_max.data.toList.drop 0 = dktJ4_max_0 := by decide +kernel
theorem dJ4_max_0 : decode cJ4_max 0 = .ok (.iload_n 0, 1) := dk_26 (dk_at dksJ4_max_0 0 rfl rfl)
theorem dJ4_max_1 : decode cJ4_max 1 = .ok (.iload_n 1, 1) := dk_27 (dk_at dksJ4_max_0 1 rfl rfl)
theorem dJ4_max_2 : decode cJ4_max 2 = .ok (.if_icmp .lt 7, 3) := dk_161 0 7 (dk_at dksJ4_max_0 2 rfl rfl)
theorem dJ4_max_5 : decode cJ4_max 5 = .ok (.iload_n 0, 1) := dk_26 (dk_at dksJ4_max_0 5 rfl rfl)
theorem dJ4_max_6 : decode cJ4_max 6 = .ok (.goto 4, 3) := dk_167 0 4 (dk_at dksJ4_max_0 6 rfl rfl)
theorem dJ4_max_9 : decode cJ4_max 9 = .ok (.iload_n 1, 1) := dk_27 (dk_at dksJ4_max_0 9 rfl rfl)
theorem dJ4_max_10 : decode cJ4_max 10 = .ok (.ireturn, 1) := dk_172 (dk_at dksJ4_max_0 10 rfl rfl)
abbrev mJ4_max : sd_Y := (yJ4_max, cJ4_max, 2, some (.int), none)
def fJ4_max (G : sd_G) (a1 : Int32) (a2 : Int32) : sd_M Int32 :=
  if a1 < a2 then (
    sd_ret a2)
  else (
    sd_ret a1)
set_option maxHeartbeats 4000000 in
theorem sJ4_max (l : Launch) (G : sd_G) (a1 : Int32) (a2 : Int32) (h : sd_H) (ρ : Int32) (cT : Nat × Nat) (h2 : sd_H) (hf : fJ4_max G a1 a2 h = some (ρ, cT, h2)) : sd_Met mJ4_max ((l, G), (0, 0), [.int a1, .int a2], (sd_oI ρ, h2), cT) h := by
  refine sd_entry (sd_mathPlain rfl (by decide +kernel)) rfl (Nat.le_of_ble_eq_true rfl) ?_
  show sd_J mJ4_max ((l, G), (0, 0), [.int a1, .int a2], (sd_oI ρ, h2), cT) 0 [(0, .int a1), (1, .int a2)] [] h cT
  unfold fJ4_max at hf
  refine sj_iload_n 0 dJ4_max_0 rfl ?_
  refine sj_iload_n 1 dJ4_max_1 rfl ?_
  refine sj_iclt 9 hf dJ4_max_2 (by decide) (fun g2 hf => ?_) (fun g2 hf => ?_)
  · refine sj_iload_n 1 dJ4_max_9 rfl ?_
    exact sj_iret (o := sd_oI) hf rfl rfl rfl dJ4_max_10
  · refine sj_iload_n 0 dJ4_max_5 rfl ?_
    refine sj_goto 10 dJ4_max_6 (by decide) ?_
    exact sj_iret (o := sd_oI) hf rfl rfl rfl dJ4_max_10
/-! java/lang/Math.min(II)I -/
abbrev cJ4_min : ByteArray := prog_65_method_69_code
def yJ4_min : MethodName := ⟨RJ4, "min", "(II)I"⟩
def dkwJ4_min_0 : List UInt8 := [26, 27, 163, 0, 7, 26, 167, 0, 4, 27, 172]
abbrev dktJ4_min_0 : List UInt8 := dkwJ4_min_0 ++ []
theorem dksJ4_min_0 : cJ4_min.data.toList.drop 0 = dktJ4_min_0 := by decide +kernel
theorem dJ4_min_0 : decode cJ4_min 0 = .ok (.iload_n 0, 1) := dk_26 (dk_at dksJ4_min_0 0 rfl rfl)
theorem dJ4_min_1 : decode cJ4_min 1 = .ok (.iload_n 1, 1) := dk_27 (dk_at dksJ4_min_0 1 rfl rfl)
theorem dJ4_min_2 : decode cJ4_min 2 = .ok (.if_icmp .gt 7, 3) := dk_163 0 7 (dk_at dksJ4_min_0 2 rfl rfl)
theorem dJ4_min_5 : decode cJ4_min 5 = .ok (.iload_n 0, 1) := dk_26 (dk_at dksJ4_min_0 5 rfl rfl)
theorem dJ4_min_6 : decode cJ4_min 6 = .ok (.goto 4, 3) := dk_167 0 4 (dk_at dksJ4_min_0 6 rfl rfl)
theorem dJ4_min_9 : decode cJ4_min 9 = .ok (.iload_n 1, 1) := dk_27 (dk_at dksJ4_min_0 9 rfl rfl)
theorem dJ4_min_10 : decode cJ4_min 10 = .ok (.ireturn, 1) := dk_172 (dk_at dksJ4_min_0 10 rfl rfl)
abbrev mJ4_min : sd_Y := (yJ4_min, cJ4_min, 2, some (.int), none)
def fJ4_min (G : sd_G) (a1 : Int32) (a2 : Int32) : sd_M Int32 :=
  if a2 < a1 then (
    sd_ret a2)
  else (
    sd_ret a1)
set_option maxHeartbeats 4000000 in
theorem sJ4_min (l : Launch) (G : sd_G) (a1 : Int32) (a2 : Int32) (h : sd_H) (ρ : Int32) (cT : Nat × Nat) (h2 : sd_H) (hf : fJ4_min G a1 a2 h = some (ρ, cT, h2)) : sd_Met mJ4_min ((l, G), (0, 0), [.int a1, .int a2], (sd_oI ρ, h2), cT) h := by
  refine sd_entry (sd_mathPlain rfl (by decide +kernel)) rfl (Nat.le_of_ble_eq_true rfl) ?_
  show sd_J mJ4_min ((l, G), (0, 0), [.int a1, .int a2], (sd_oI ρ, h2), cT) 0 [(0, .int a1), (1, .int a2)] [] h cT
  unfold fJ4_min at hf
  refine sj_iload_n 0 dJ4_min_0 rfl ?_
  refine sj_iload_n 1 dJ4_min_1 rfl ?_
  refine sj_icgt 9 hf dJ4_min_2 (by decide) (fun g2 hf => ?_) (fun g2 hf => ?_)
  · refine sj_iload_n 1 dJ4_min_9 rfl ?_
    exact sj_iret (o := sd_oI) hf rfl rfl rfl dJ4_min_10
  · refine sj_iload_n 0 dJ4_min_5 rfl ?_
    refine sj_goto 10 dJ4_min_6 (by decide) ?_
    exact sj_iret (o := sd_oI) hf rfl rfl rfl dJ4_min_10
/-! java/lang/Math.floorMod(II)I -/
abbrev cJ4_floorMod : ByteArray := prog_65_method_50_code
def yJ4_floorMod : MethodName := ⟨RJ4, "floorMod", "(II)I"⟩
def dkwJ4_floorMod_0 : List UInt8 := [26, 27, 112, 61, 26, 27, 130, 156, 0, 11, 28, 153, 0, 7, 28, 27, 96, 172, 28, 172]
abbrev dktJ4_floorMod_0 : List UInt8 := dkwJ4_floorMod_0 ++ []
theorem dksJ4_floorMod_0 : cJ4_floorMod.data.toList.drop 0 = dktJ4_floorMod_0 := by decide +kernel
theorem dJ4_floorMod_0 : decode cJ4_floorMod 0 = .ok (.iload_n 0, 1) := dk_26 (dk_at dksJ4_floorMod_0 0 rfl rfl)
theorem dJ4_floorMod_1 : decode cJ4_floorMod 1 = .ok (.iload_n 1, 1) := dk_27 (dk_at dksJ4_floorMod_0 1 rfl rfl)
theorem dJ4_floorMod_2 : decode cJ4_floorMod 2 = .ok (.irem, 1) := dk_112 (dk_at dksJ4_floorMod_0 2 rfl rfl)
theorem dJ4_floorMod_3 : decode cJ4_floorMod 3 = .ok (.istore_n 2, 1) := dk_61 (dk_at dksJ4_floorMod_0 3 rfl rfl)
theorem dJ4_floorMod_4 : decode cJ4_floorMod 4 = .ok (.iload_n 0, 1) := dk_26 (dk_at dksJ4_floorMod_0 4 rfl rfl)
theorem dJ4_floorMod_5 : decode cJ4_floorMod 5 = .ok (.iload_n 1, 1) := dk_27 (dk_at dksJ4_floorMod_0 5 rfl rfl)
theorem dJ4_floorMod_6 : decode cJ4_floorMod 6 = .ok (.ixor, 1) := dk_130 (dk_at dksJ4_floorMod_0 6 rfl rfl)
theorem dJ4_floorMod_7 : decode cJ4_floorMod 7 = .ok (.ifCond .ge 11, 3) := dk_156 0 11 (dk_at dksJ4_floorMod_0 7 rfl rfl)
theorem dJ4_floorMod_10 : decode cJ4_floorMod 10 = .ok (.iload_n 2, 1) := dk_28 (dk_at dksJ4_floorMod_0 10 rfl rfl)
theorem dJ4_floorMod_11 : decode cJ4_floorMod 11 = .ok (.ifCond .eq 7, 3) := dk_153 0 7 (dk_at dksJ4_floorMod_0 11 rfl rfl)
theorem dJ4_floorMod_14 : decode cJ4_floorMod 14 = .ok (.iload_n 2, 1) := dk_28 (dk_at dksJ4_floorMod_0 14 rfl rfl)
theorem dJ4_floorMod_15 : decode cJ4_floorMod 15 = .ok (.iload_n 1, 1) := dk_27 (dk_at dksJ4_floorMod_0 15 rfl rfl)
theorem dJ4_floorMod_16 : decode cJ4_floorMod 16 = .ok (.iadd, 1) := dk_96 (dk_at dksJ4_floorMod_0 16 rfl rfl)
theorem dJ4_floorMod_17 : decode cJ4_floorMod 17 = .ok (.ireturn, 1) := dk_172 (dk_at dksJ4_floorMod_0 17 rfl rfl)
theorem dJ4_floorMod_18 : decode cJ4_floorMod 18 = .ok (.iload_n 2, 1) := dk_28 (dk_at dksJ4_floorMod_0 18 rfl rfl)
theorem dJ4_floorMod_19 : decode cJ4_floorMod 19 = .ok (.ireturn, 1) := dk_172 (dk_at dksJ4_floorMod_0 19 rfl rfl)
abbrev mJ4_floorMod : sd_Y := (yJ4_floorMod, cJ4_floorMod, 3, some (.int), none)
def fJ4_floorMod (G : sd_G) (a1 : Int32) (a2 : Int32) : sd_M Int32 :=
  sd_bnd (sd_nz a2) fun _ =>
  sd_bnd (sd_ret (a1 - a1 / a2 * a2)) fun x1 =>
  if 0 ≤ (a1 ^^^ a2) then (
    sd_ret x1)
  else (
    if x1 = 0 then (
      sd_ret x1)
    else (
      sd_ret (x1 + a2)))
set_option maxHeartbeats 4000000 in
theorem sJ4_floorMod (l : Launch) (G : sd_G) (a1 : Int32) (a2 : Int32) (h : sd_H) (ρ : Int32) (cT : Nat × Nat) (h2 : sd_H) (hf : fJ4_floorMod G a1 a2 h = some (ρ, cT, h2)) : sd_Met mJ4_floorMod ((l, G), (0, 0), [.int a1, .int a2], (sd_oI ρ, h2), cT) h := by
  refine sd_entry (sd_mathPlain rfl (by decide +kernel)) rfl (Nat.le_of_ble_eq_true rfl) ?_
  show sd_J mJ4_floorMod ((l, G), (0, 0), [.int a1, .int a2], (sd_oI ρ, h2), cT) 0 [(0, .int a1), (1, .int a2)] [] h cT
  unfold fJ4_floorMod at hf
  refine sj_iload_n 0 dJ4_floorMod_0 rfl ?_
  refine sj_iload_n 1 dJ4_floorMod_1 rfl ?_
  obtain ⟨hz2, hf⟩ := sd_nz_some hf
  refine sj_irem dJ4_floorMod_2 hz2 ?_
  refine sj_nameI hf (fun x1 hf => ?_)
  refine sj_istore_n [(2, .int x1), (0, .int a1), (1, .int a2)] dJ4_floorMod_3 (by decide) rfl ?_
  refine sj_iload_n 1 dJ4_floorMod_4 rfl ?_
  refine sj_iload_n 2 dJ4_floorMod_5 rfl ?_
  refine sj_ixor dJ4_floorMod_6 ?_
  refine sj_ifge 18 hf dJ4_floorMod_7 (by decide) (fun g7 hf => ?_) (fun g7 hf => ?_)
  · refine sj_iload_n 0 dJ4_floorMod_18 rfl ?_
    exact sj_iret (o := sd_oI) hf rfl rfl rfl dJ4_floorMod_19
  · refine sj_iload_n 0 dJ4_floorMod_10 rfl ?_
    refine sj_ifeq 18 hf dJ4_floorMod_11 (by decide) (fun g11 hf => ?_) (fun g11 hf => ?_)
    · refine sj_iload_n 0 dJ4_floorMod_18 rfl ?_
      exact sj_iret (o := sd_oI) hf rfl rfl rfl dJ4_floorMod_19
    · refine sj_iload_n 0 dJ4_floorMod_14 rfl ?_
      refine sj_iload_n 2 dJ4_floorMod_15 rfl ?_
      refine sj_iadd dJ4_floorMod_16 ?_
      exact sj_iret (o := sd_oI) hf rfl rfl rfl dJ4_floorMod_17
/-! java/lang/Integer.bitCount(I)I -/
abbrev cJ19_bitCount : ByteArray := prog_61_method_49_code
def yJ19_bitCount : MethodName := ⟨RJ19, "bitCount", "(I)I"⟩
def dkwJ19_bitCount_2 : List UInt8 := [26, 16, 63, 126, 172]
abbrev dktJ19_bitCount_2 : List UInt8 := dkwJ19_bitCount_2 ++ []
def dkwJ19_bitCount_1 : List UInt8 := [26, 26, 7, 124, 96, 19, 1, 11, 126, 59, 26, 26, 16, 8, 124, 96, 59, 26, 26, 16, 16, 124, 96, 59]
abbrev dktJ19_bitCount_1 : List UInt8 := dkwJ19_bitCount_1 ++ dktJ19_bitCount_2
def dkwJ19_bitCount_0 : List UInt8 := [26, 26, 4, 124, 19, 1, 9, 126, 100, 59, 26, 19, 1, 10, 126, 26, 5, 124, 19, 1, 10, 126, 96, 59]
abbrev dktJ19_bitCount_0 : List UInt8 := dkwJ19_bitCount_0 ++ dktJ19_bitCount_1
theorem dksJ19_bitCount_0 : cJ19_bitCount.data.toList.drop 0 = dktJ19_bitCount_0 := by decide +kernel
theorem dksJ19_bitCount_1 : cJ19_bitCount.data.toList.drop 24 = dktJ19_bitCount_1 := dk_seg dksJ19_bitCount_0 24 rfl rfl
theorem dksJ19_bitCount_2 : cJ19_bitCount.data.toList.drop 48 = dktJ19_bitCount_2 := dk_seg dksJ19_bitCount_1 24 rfl rfl
theorem dJ19_bitCount_0 : decode cJ19_bitCount 0 = .ok (.iload_n 0, 1) := dk_26 (dk_at dksJ19_bitCount_0 0 rfl rfl)
theorem dJ19_bitCount_1 : decode cJ19_bitCount 1 = .ok (.iload_n 0, 1) := dk_26 (dk_at dksJ19_bitCount_0 1 rfl rfl)
theorem dJ19_bitCount_2 : decode cJ19_bitCount 2 = .ok (.iconst 1, 1) := dk_4 (dk_at dksJ19_bitCount_0 2 rfl rfl)
theorem dJ19_bitCount_3 : decode cJ19_bitCount 3 = .ok (.iushr, 1) := dk_124 (dk_at dksJ19_bitCount_0 3 rfl rfl)
theorem dJ19_bitCount_4 : decode cJ19_bitCount 4 = .ok (.ldc_w 265, 3) := dk_19 1 9 (dk_at dksJ19_bitCount_0 4 rfl rfl)
theorem dJ19_bitCount_7 : decode cJ19_bitCount 7 = .ok (.iand, 1) := dk_126 (dk_at dksJ19_bitCount_0 7 rfl rfl)
theorem dJ19_bitCount_8 : decode cJ19_bitCount 8 = .ok (.isub, 1) := dk_100 (dk_at dksJ19_bitCount_0 8 rfl rfl)
theorem dJ19_bitCount_9 : decode cJ19_bitCount 9 = .ok (.istore_n 0, 1) := dk_59 (dk_at dksJ19_bitCount_0 9 rfl rfl)
theorem dJ19_bitCount_10 : decode cJ19_bitCount 10 = .ok (.iload_n 0, 1) := dk_26 (dk_at dksJ19_bitCount_0 10 rfl rfl)
theorem dJ19_bitCount_11 : decode cJ19_bitCount 11 = .ok (.ldc_w 266, 3) := dk_19 1 10 (dk_at dksJ19_bitCount_0 11 rfl rfl)
theorem dJ19_bitCount_14 : decode cJ19_bitCount 14 = .ok (.iand, 1) := dk_126 (dk_at dksJ19_bitCount_0 14 rfl rfl)
theorem dJ19_bitCount_15 : decode cJ19_bitCount 15 = .ok (.iload_n 0, 1) := dk_26 (dk_at dksJ19_bitCount_0 15 rfl rfl)
theorem dJ19_bitCount_16 : decode cJ19_bitCount 16 = .ok (.iconst 2, 1) := dk_5 (dk_at dksJ19_bitCount_0 16 rfl rfl)
theorem dJ19_bitCount_17 : decode cJ19_bitCount 17 = .ok (.iushr, 1) := dk_124 (dk_at dksJ19_bitCount_0 17 rfl rfl)
theorem dJ19_bitCount_18 : decode cJ19_bitCount 18 = .ok (.ldc_w 266, 3) := dk_19 1 10 (dk_at dksJ19_bitCount_0 18 rfl rfl)
theorem dJ19_bitCount_21 : decode cJ19_bitCount 21 = .ok (.iand, 1) := dk_126 (dk_at dksJ19_bitCount_0 21 rfl rfl)
theorem dJ19_bitCount_22 : decode cJ19_bitCount 22 = .ok (.iadd, 1) := dk_96 (dk_at dksJ19_bitCount_0 22 rfl rfl)
theorem dJ19_bitCount_23 : decode cJ19_bitCount 23 = .ok (.istore_n 0, 1) := dk_59 (dk_at dksJ19_bitCount_0 23 rfl rfl)
theorem dJ19_bitCount_24 : decode cJ19_bitCount 24 = .ok (.iload_n 0, 1) := dk_26 (dk_at dksJ19_bitCount_1 0 rfl rfl)
theorem dJ19_bitCount_25 : decode cJ19_bitCount 25 = .ok (.iload_n 0, 1) := dk_26 (dk_at dksJ19_bitCount_1 1 rfl rfl)
theorem dJ19_bitCount_26 : decode cJ19_bitCount 26 = .ok (.iconst 4, 1) := dk_7 (dk_at dksJ19_bitCount_1 2 rfl rfl)
theorem dJ19_bitCount_27 : decode cJ19_bitCount 27 = .ok (.iushr, 1) := dk_124 (dk_at dksJ19_bitCount_1 3 rfl rfl)
theorem dJ19_bitCount_28 : decode cJ19_bitCount 28 = .ok (.iadd, 1) := dk_96 (dk_at dksJ19_bitCount_1 4 rfl rfl)
theorem dJ19_bitCount_29 : decode cJ19_bitCount 29 = .ok (.ldc_w 267, 3) := dk_19 1 11 (dk_at dksJ19_bitCount_1 5 rfl rfl)
theorem dJ19_bitCount_32 : decode cJ19_bitCount 32 = .ok (.iand, 1) := dk_126 (dk_at dksJ19_bitCount_1 8 rfl rfl)
theorem dJ19_bitCount_33 : decode cJ19_bitCount 33 = .ok (.istore_n 0, 1) := dk_59 (dk_at dksJ19_bitCount_1 9 rfl rfl)
theorem dJ19_bitCount_34 : decode cJ19_bitCount 34 = .ok (.iload_n 0, 1) := dk_26 (dk_at dksJ19_bitCount_1 10 rfl rfl)
theorem dJ19_bitCount_35 : decode cJ19_bitCount 35 = .ok (.iload_n 0, 1) := dk_26 (dk_at dksJ19_bitCount_1 11 rfl rfl)
theorem dJ19_bitCount_36 : decode cJ19_bitCount 36 = .ok (.bipush 8, 2) := dk_16 8 (dk_at dksJ19_bitCount_1 12 rfl rfl)
theorem dJ19_bitCount_38 : decode cJ19_bitCount 38 = .ok (.iushr, 1) := dk_124 (dk_at dksJ19_bitCount_1 14 rfl rfl)
theorem dJ19_bitCount_39 : decode cJ19_bitCount 39 = .ok (.iadd, 1) := dk_96 (dk_at dksJ19_bitCount_1 15 rfl rfl)
theorem dJ19_bitCount_40 : decode cJ19_bitCount 40 = .ok (.istore_n 0, 1) := dk_59 (dk_at dksJ19_bitCount_1 16 rfl rfl)
theorem dJ19_bitCount_41 : decode cJ19_bitCount 41 = .ok (.iload_n 0, 1) := dk_26 (dk_at dksJ19_bitCount_1 17 rfl rfl)
theorem dJ19_bitCount_42 : decode cJ19_bitCount 42 = .ok (.iload_n 0, 1) := dk_26 (dk_at dksJ19_bitCount_1 18 rfl rfl)
theorem dJ19_bitCount_43 : decode cJ19_bitCount 43 = .ok (.bipush 16, 2) := dk_16 16 (dk_at dksJ19_bitCount_1 19 rfl rfl)
theorem dJ19_bitCount_45 : decode cJ19_bitCount 45 = .ok (.iushr, 1) := dk_124 (dk_at dksJ19_bitCount_1 21 rfl rfl)
theorem dJ19_bitCount_46 : decode cJ19_bitCount 46 = .ok (.iadd, 1) := dk_96 (dk_at dksJ19_bitCount_1 22 rfl rfl)
theorem dJ19_bitCount_47 : decode cJ19_bitCount 47 = .ok (.istore_n 0, 1) := dk_59 (dk_at dksJ19_bitCount_1 23 rfl rfl)
theorem dJ19_bitCount_48 : decode cJ19_bitCount 48 = .ok (.iload_n 0, 1) := dk_26 (dk_at dksJ19_bitCount_2 0 rfl rfl)
theorem dJ19_bitCount_49 : decode cJ19_bitCount 49 = .ok (.bipush 63, 2) := dk_16 63 (dk_at dksJ19_bitCount_2 1 rfl rfl)
theorem dJ19_bitCount_51 : decode cJ19_bitCount 51 = .ok (.iand, 1) := dk_126 (dk_at dksJ19_bitCount_2 3 rfl rfl)
theorem dJ19_bitCount_52 : decode cJ19_bitCount 52 = .ok (.ireturn, 1) := dk_172 (dk_at dksJ19_bitCount_2 4 rfl rfl)
abbrev mJ19_bitCount : sd_Y := (yJ19_bitCount, cJ19_bitCount, 1, some (.int), none)
def fJ19_bitCount (G : sd_G) (a1 : Int32) : sd_M Int32 :=
  sd_bnd (sd_ret (((a1.toUInt32 >>> ((1 : Int32).toUInt32 &&& Int32.toUInt32 31)).toInt32) &&& 1431655765)) fun x1 =>
  sd_bnd (sd_ret (a1 - x1)) fun x2 =>
  sd_bnd (sd_ret (((x2.toUInt32 >>> ((2 : Int32).toUInt32 &&& Int32.toUInt32 31)).toInt32) &&& 858993459)) fun x3 =>
  sd_bnd (sd_ret ((x2 &&& 858993459) + x3)) fun x4 =>
  sd_bnd (sd_ret (x4 + ((x4.toUInt32 >>> ((4 : Int32).toUInt32 &&& Int32.toUInt32 31)).toInt32))) fun x5 =>
  sd_bnd (sd_ret (x5 &&& 252645135)) fun x6 =>
  sd_bnd (sd_ret (x6 + ((x6.toUInt32 >>> ((8 : Int32).toUInt32 &&& Int32.toUInt32 31)).toInt32))) fun x7 =>
  sd_bnd (sd_ret ((x7.toUInt32 >>> ((16 : Int32).toUInt32 &&& Int32.toUInt32 31)).toInt32)) fun x8 =>
  sd_bnd (sd_ret (x7 + x8)) fun x9 =>
  sd_ret (x9 &&& 63)
set_option maxHeartbeats 4000000 in
theorem sJ19_bitCount (l : Launch) (G : sd_G) (a1 : Int32) (h : sd_H) (ρ : Int32) (cT : Nat × Nat) (h2 : sd_H) (hf : fJ19_bitCount G a1 h = some (ρ, cT, h2)) : sd_Met mJ19_bitCount ((l, G), (0, 0), [.int a1], (sd_oI ρ, h2), cT) h := by
  refine sd_entry (plainFor_of_name rfl) rfl (Nat.le_of_ble_eq_true rfl) ?_
  show sd_J mJ19_bitCount ((l, G), (0, 0), [.int a1], (sd_oI ρ, h2), cT) 0 [(0, .int a1)] [] h cT
  unfold fJ19_bitCount at hf
  refine sj_iload_n 0 dJ19_bitCount_0 rfl ?_
  refine sj_iload_n 0 dJ19_bitCount_1 rfl ?_
  refine sj_iconst (v := 1) dJ19_bitCount_2 (by decide) ?_
  refine sj_iushr dJ19_bitCount_3 ?_
  refine sj_ldcw q3167 dJ19_bitCount_4 ?_
  refine sj_iand dJ19_bitCount_7 ?_
  refine sj_nameI hf (fun x1 hf => ?_)
  refine sj_isub dJ19_bitCount_8 ?_
  refine sj_nameI hf (fun x2 hf => ?_)
  refine sj_istore_n [(0, .int x2)] dJ19_bitCount_9 (by decide) rfl ?_
  refine sj_iload_n 0 dJ19_bitCount_10 rfl ?_
  refine sj_ldcw q3168 dJ19_bitCount_11 ?_
  refine sj_iand dJ19_bitCount_14 ?_
  refine sj_iload_n 0 dJ19_bitCount_15 rfl ?_
  refine sj_iconst (v := 2) dJ19_bitCount_16 (by decide) ?_
  refine sj_iushr dJ19_bitCount_17 ?_
  refine sj_ldcw q3168 dJ19_bitCount_18 ?_
  refine sj_iand dJ19_bitCount_21 ?_
  refine sj_nameI hf (fun x3 hf => ?_)
  refine sj_iadd dJ19_bitCount_22 ?_
  refine sj_nameI hf (fun x4 hf => ?_)
  refine sj_istore_n [(0, .int x4)] dJ19_bitCount_23 (by decide) rfl ?_
  refine sj_iload_n 0 dJ19_bitCount_24 rfl ?_
  refine sj_iload_n 0 dJ19_bitCount_25 rfl ?_
  refine sj_iconst (v := 4) dJ19_bitCount_26 (by decide) ?_
  refine sj_iushr dJ19_bitCount_27 ?_
  refine sj_iadd dJ19_bitCount_28 ?_
  refine sj_nameI hf (fun x5 hf => ?_)
  refine sj_ldcw q3169 dJ19_bitCount_29 ?_
  refine sj_iand dJ19_bitCount_32 ?_
  refine sj_nameI hf (fun x6 hf => ?_)
  refine sj_istore_n [(0, .int x6)] dJ19_bitCount_33 (by decide) rfl ?_
  refine sj_iload_n 0 dJ19_bitCount_34 rfl ?_
  refine sj_iload_n 0 dJ19_bitCount_35 rfl ?_
  refine sj_bipush (v := 8) dJ19_bitCount_36 (by decide) ?_
  refine sj_iushr dJ19_bitCount_38 ?_
  refine sj_iadd dJ19_bitCount_39 ?_
  refine sj_nameI hf (fun x7 hf => ?_)
  refine sj_istore_n [(0, .int x7)] dJ19_bitCount_40 (by decide) rfl ?_
  refine sj_iload_n 0 dJ19_bitCount_41 rfl ?_
  refine sj_iload_n 0 dJ19_bitCount_42 rfl ?_
  refine sj_bipush (v := 16) dJ19_bitCount_43 (by decide) ?_
  refine sj_iushr dJ19_bitCount_45 ?_
  refine sj_nameI hf (fun x8 hf => ?_)
  refine sj_iadd dJ19_bitCount_46 ?_
  refine sj_nameI hf (fun x9 hf => ?_)
  refine sj_istore_n [(0, .int x9)] dJ19_bitCount_47 (by decide) rfl ?_
  refine sj_iload_n 0 dJ19_bitCount_48 rfl ?_
  refine sj_bipush (v := 63) dJ19_bitCount_49 (by decide) ?_
  refine sj_iand dJ19_bitCount_51 ?_
  exact sj_iret (o := sd_oI) hf rfl rfl rfl dJ19_bitCount_52
/-! java/lang/Integer.compare(II)I -/
abbrev cJ19_compare : ByteArray := prog_61_method_40_code
def yJ19_compare : MethodName := ⟨RJ19, "compare", "(II)I"⟩
def dkwJ19_compare_0 : List UInt8 := [26, 27, 162, 0, 7, 2, 167, 0, 13, 26, 27, 160, 0, 7, 3, 167, 0, 4, 4, 172]
abbrev dktJ19_compare_0 : List UInt8 := dkwJ19_compare_0 ++ []
theorem dksJ19_compare_0 : cJ19_compare.data.toList.drop 0 = dktJ19_compare_0 := by decide +kernel
theorem dJ19_compare_0 : decode cJ19_compare 0 = .ok (.iload_n 0, 1) := dk_26 (dk_at dksJ19_compare_0 0 rfl rfl)
theorem dJ19_compare_1 : decode cJ19_compare 1 = .ok (.iload_n 1, 1) := dk_27 (dk_at dksJ19_compare_0 1 rfl rfl)
theorem dJ19_compare_2 : decode cJ19_compare 2 = .ok (.if_icmp .ge 7, 3) := dk_162 0 7 (dk_at dksJ19_compare_0 2 rfl rfl)
theorem dJ19_compare_5 : decode cJ19_compare 5 = .ok (.iconst (-1), 1) := dk_2 (dk_at dksJ19_compare_0 5 rfl rfl)
theorem dJ19_compare_6 : decode cJ19_compare 6 = .ok (.goto 13, 3) := dk_167 0 13 (dk_at dksJ19_compare_0 6 rfl rfl)
theorem dJ19_compare_9 : decode cJ19_compare 9 = .ok (.iload_n 0, 1) := dk_26 (dk_at dksJ19_compare_0 9 rfl rfl)
theorem dJ19_compare_10 : decode cJ19_compare 10 = .ok (.iload_n 1, 1) := dk_27 (dk_at dksJ19_compare_0 10 rfl rfl)
theorem dJ19_compare_11 : decode cJ19_compare 11 = .ok (.if_icmp .ne 7, 3) := dk_160 0 7 (dk_at dksJ19_compare_0 11 rfl rfl)
theorem dJ19_compare_14 : decode cJ19_compare 14 = .ok (.iconst 0, 1) := dk_3 (dk_at dksJ19_compare_0 14 rfl rfl)
theorem dJ19_compare_15 : decode cJ19_compare 15 = .ok (.goto 4, 3) := dk_167 0 4 (dk_at dksJ19_compare_0 15 rfl rfl)
theorem dJ19_compare_18 : decode cJ19_compare 18 = .ok (.iconst 1, 1) := dk_4 (dk_at dksJ19_compare_0 18 rfl rfl)
theorem dJ19_compare_19 : decode cJ19_compare 19 = .ok (.ireturn, 1) := dk_172 (dk_at dksJ19_compare_0 19 rfl rfl)
abbrev mJ19_compare : sd_Y := (yJ19_compare, cJ19_compare, 2, some (.int), none)
def fJ19_compare (G : sd_G) (a1 : Int32) (a2 : Int32) : sd_M Int32 :=
  if a2 ≤ a1 then (
    if a1 = a2 then (
      sd_ret 0)
    else (
      sd_ret 1))
  else (
    sd_ret (-1))
set_option maxHeartbeats 4000000 in
theorem sJ19_compare (l : Launch) (G : sd_G) (a1 : Int32) (a2 : Int32) (h : sd_H) (ρ : Int32) (cT : Nat × Nat) (h2 : sd_H) (hf : fJ19_compare G a1 a2 h = some (ρ, cT, h2)) : sd_Met mJ19_compare ((l, G), (0, 0), [.int a1, .int a2], (sd_oI ρ, h2), cT) h := by
  refine sd_entry (plainFor_of_name rfl) rfl (Nat.le_of_ble_eq_true rfl) ?_
  show sd_J mJ19_compare ((l, G), (0, 0), [.int a1, .int a2], (sd_oI ρ, h2), cT) 0 [(0, .int a1), (1, .int a2)] [] h cT
  unfold fJ19_compare at hf
  refine sj_iload_n 0 dJ19_compare_0 rfl ?_
  refine sj_iload_n 1 dJ19_compare_1 rfl ?_
  refine sj_icge 9 hf dJ19_compare_2 (by decide) (fun g2 hf => ?_) (fun g2 hf => ?_)
  · refine sj_iload_n 0 dJ19_compare_9 rfl ?_
    refine sj_iload_n 1 dJ19_compare_10 rfl ?_
    refine sj_icne 18 hf dJ19_compare_11 (by decide) (fun g11 hf => ?_) (fun g11 hf => ?_)
    · refine sj_iconst (v := 1) dJ19_compare_18 (by decide) ?_
      exact sj_iret (o := sd_oI) hf rfl rfl rfl dJ19_compare_19
    · refine sj_iconst (v := 0) dJ19_compare_14 (by decide) ?_
      refine sj_goto 19 dJ19_compare_15 (by decide) ?_
      exact sj_iret (o := sd_oI) hf rfl rfl rfl dJ19_compare_19
  · refine sj_iconst (v := (-1)) dJ19_compare_5 (by decide) ?_
    refine sj_goto 19 dJ19_compare_6 (by decide) ?_
    exact sj_iret (o := sd_oI) hf rfl rfl rfl dJ19_compare_19
/-! java/lang/String.coder()B -/
abbrev cJ14_coder : ByteArray := prog_68_method_152_code
def yJ14_coder : MethodName := ⟨RJ14, "coder", "()B"⟩
def dkwJ14_coder_0 : List UInt8 := [178, 0, 38, 153, 0, 10, 42, 180, 0, 15, 167, 0, 4, 4, 172]
abbrev dktJ14_coder_0 : List UInt8 := dkwJ14_coder_0 ++ []
theorem dksJ14_coder_0 : cJ14_coder.data.toList.drop 0 = dktJ14_coder_0 := by decide +kernel
theorem dJ14_coder_0 : decode cJ14_coder 0 = .ok (.getstatic 38, 3) := dk_178 0 38 (dk_at dksJ14_coder_0 0 rfl rfl)
theorem dJ14_coder_3 : decode cJ14_coder 3 = .ok (.ifCond .eq 10, 3) := dk_153 0 10 (dk_at dksJ14_coder_0 3 rfl rfl)
theorem dJ14_coder_6 : decode cJ14_coder 6 = .ok (.aload_n 0, 1) := dk_42 (dk_at dksJ14_coder_0 6 rfl rfl)
theorem dJ14_coder_7 : decode cJ14_coder 7 = .ok (.getfield 15, 3) := dk_180 0 15 (dk_at dksJ14_coder_0 7 rfl rfl)
theorem dJ14_coder_10 : decode cJ14_coder 10 = .ok (.goto 4, 3) := dk_167 0 4 (dk_at dksJ14_coder_0 10 rfl rfl)
theorem dJ14_coder_13 : decode cJ14_coder 13 = .ok (.iconst 1, 1) := dk_4 (dk_at dksJ14_coder_0 13 rfl rfl)
theorem dJ14_coder_14 : decode cJ14_coder 14 = .ok (.ireturn, 1) := dk_172 (dk_at dksJ14_coder_0 14 rfl rfl)
theorem fdJ14_15_45 : sd_Fd "java/lang/String" 15 45 1 := ⟨(RJ14, TJ14, 4), "java/lang/String", rfl, by decide, rfl, in_J14, Or.inl rfl, Or.inl q833⟩
abbrev mJ14_coder : sd_Y := (yJ14_coder, cJ14_coder, 1, some (.byte), none)
def fJ14_coder (G : sd_G) (a0 : Nat) : sd_M Int32 :=
  sd_bnd (sd_getI G 45 1 a0) fun v1 =>
  sd_retN .byte v1
set_option maxHeartbeats 4000000 in
theorem sJ14_coder (l : Launch) (G : sd_G) (a0 : Nat) (h : sd_H) (ρ : Int32) (cT : Nat × Nat) (h2 : sd_H) (hf : fJ14_coder G a0 h = some (ρ, cT, h2)) : sd_Met mJ14_coder ((l, G), (0, 0), [.ref a0], (sd_oI ρ, h2), cT) h := by
  refine sd_entry (plainFor_of_name rfl) rfl (Nat.le_of_ble_eq_true rfl) ?_
  show sd_J mJ14_coder ((l, G), (0, 0), [.ref a0], (sd_oI ρ, h2), cT) 0 [(0, .ref a0)] [] h cT
  unfold fJ14_coder at hf
  refine sj_gets (v := .int 1) 2 rfl rfl ⟨Or.inl q777, rfl⟩ dJ14_coder_0 ?_
  refine sj_ifeqN 13 (by decide) dJ14_coder_3 (by decide) ?_
  refine sj_aload_n 0 dJ14_coder_6 rfl ?_
  refine sj_getI fdJ14_15_45 hf dJ14_coder_7 (fun v1 hf => ?_)
  refine sj_goto 14 dJ14_coder_10 (by decide) ?_
  exact sj_zret hf rfl rfl dJ14_coder_14
/-! java/lang/String.isLatin1()Z -/
abbrev cJ14_isLatin1 : ByteArray := prog_68_method_154_code
def yJ14_isLatin1 : MethodName := ⟨RJ14, "isLatin1", "()Z"⟩
def dkwJ14_isLatin1_0 : List UInt8 := [178, 0, 38, 153, 0, 14, 42, 180, 0, 15, 154, 0, 7, 4, 167, 0, 4, 3, 172]
abbrev dktJ14_isLatin1_0 : List UInt8 := dkwJ14_isLatin1_0 ++ []
theorem dksJ14_isLatin1_0 : cJ14_isLatin1.data.toList.drop 0 = dktJ14_isLatin1_0 := by decide +kernel
theorem dJ14_isLatin1_0 : decode cJ14_isLatin1 0 = .ok (.getstatic 38, 3) := dk_178 0 38 (dk_at dksJ14_isLatin1_0 0 rfl rfl)
theorem dJ14_isLatin1_3 : decode cJ14_isLatin1 3 = .ok (.ifCond .eq 14, 3) := dk_153 0 14 (dk_at dksJ14_isLatin1_0 3 rfl rfl)
theorem dJ14_isLatin1_6 : decode cJ14_isLatin1 6 = .ok (.aload_n 0, 1) := dk_42 (dk_at dksJ14_isLatin1_0 6 rfl rfl)
theorem dJ14_isLatin1_7 : decode cJ14_isLatin1 7 = .ok (.getfield 15, 3) := dk_180 0 15 (dk_at dksJ14_isLatin1_0 7 rfl rfl)
theorem dJ14_isLatin1_10 : decode cJ14_isLatin1 10 = .ok (.ifCond .ne 7, 3) := dk_154 0 7 (dk_at dksJ14_isLatin1_0 10 rfl rfl)
theorem dJ14_isLatin1_13 : decode cJ14_isLatin1 13 = .ok (.iconst 1, 1) := dk_4 (dk_at dksJ14_isLatin1_0 13 rfl rfl)
theorem dJ14_isLatin1_14 : decode cJ14_isLatin1 14 = .ok (.goto 4, 3) := dk_167 0 4 (dk_at dksJ14_isLatin1_0 14 rfl rfl)
theorem dJ14_isLatin1_17 : decode cJ14_isLatin1 17 = .ok (.iconst 0, 1) := dk_3 (dk_at dksJ14_isLatin1_0 17 rfl rfl)
theorem dJ14_isLatin1_18 : decode cJ14_isLatin1 18 = .ok (.ireturn, 1) := dk_172 (dk_at dksJ14_isLatin1_0 18 rfl rfl)
abbrev mJ14_isLatin1 : sd_Y := (yJ14_isLatin1, cJ14_isLatin1, 1, some (.boolean), none)
def fJ14_isLatin1 (G : sd_G) (a0 : Nat) : sd_M Int32 :=
  sd_bnd (sd_getI G 45 1 a0) fun v1 =>
  if v1 = 0 then (
    sd_ret 1)
  else (
    sd_ret 0)
set_option maxHeartbeats 4000000 in
theorem sJ14_isLatin1 (l : Launch) (G : sd_G) (a0 : Nat) (h : sd_H) (ρ : Int32) (cT : Nat × Nat) (h2 : sd_H) (hf : fJ14_isLatin1 G a0 h = some (ρ, cT, h2)) : sd_Met mJ14_isLatin1 ((l, G), (0, 0), [.ref a0], (sd_oI ρ, h2), cT) h := by
  refine sd_entry (plainFor_of_name rfl) rfl (Nat.le_of_ble_eq_true rfl) ?_
  show sd_J mJ14_isLatin1 ((l, G), (0, 0), [.ref a0], (sd_oI ρ, h2), cT) 0 [(0, .ref a0)] [] h cT
  unfold fJ14_isLatin1 at hf
  refine sj_gets (v := .int 1) 2 rfl rfl ⟨Or.inl q777, rfl⟩ dJ14_isLatin1_0 ?_
  refine sj_ifeqN 17 (by decide) dJ14_isLatin1_3 (by decide) ?_
  refine sj_aload_n 0 dJ14_isLatin1_6 rfl ?_
  refine sj_getI fdJ14_15_45 hf dJ14_isLatin1_7 (fun v1 hf => ?_)
  refine sj_ifne 17 hf dJ14_isLatin1_10 (by decide) (fun g10 hf => ?_) (fun g10 hf => ?_)
  · refine sj_iconst (v := 0) dJ14_isLatin1_17 (by decide) ?_
    exact sj_zretC (o := sd_oI) (ty := .boolean) rfl hf rfl rfl rfl dJ14_isLatin1_18
  · refine sj_iconst (v := 1) dJ14_isLatin1_13 (by decide) ?_
    refine sj_goto 18 dJ14_isLatin1_14 (by decide) ?_
    exact sj_zretC (o := sd_oI) (ty := .boolean) rfl hf rfl rfl rfl dJ14_isLatin1_18
/-! java/lang/String.length()I -/
abbrev cJ14_length : ByteArray := prog_68_method_54_code
def yJ14_length : MethodName := ⟨RJ14, "length", "()I"⟩
def dkwJ14_length_0 : List UInt8 := [42, 180, 0, 9, 190, 42, 182, 1, 79, 122, 172]
abbrev dktJ14_length_0 : List UInt8 := dkwJ14_length_0 ++ []
theorem dksJ14_length_0 : cJ14_length.data.toList.drop 0 = dktJ14_length_0 := by decide +kernel
theorem dJ14_length_0 : decode cJ14_length 0 = .ok (.aload_n 0, 1) := dk_42 (dk_at dksJ14_length_0 0 rfl rfl)
theorem dJ14_length_1 : decode cJ14_length 1 = .ok (.getfield 9, 3) := dk_180 0 9 (dk_at dksJ14_length_0 1 rfl rfl)
theorem dJ14_length_4 : decode cJ14_length 4 = .ok (.arraylength, 1) := dk_190 (dk_at dksJ14_length_0 4 rfl rfl)
theorem dJ14_length_5 : decode cJ14_length 5 = .ok (.aload_n 0, 1) := dk_42 (dk_at dksJ14_length_0 5 rfl rfl)
theorem dJ14_length_6 : decode cJ14_length 6 = .ok (.invokevirtual 335, 3) := dk_182 1 79 (dk_at dksJ14_length_0 6 rfl rfl)
theorem dJ14_length_9 : decode cJ14_length 9 = .ok (.ishr, 1) := dk_122 (dk_at dksJ14_length_0 9 rfl rfl)
theorem dJ14_length_10 : decode cJ14_length 10 = .ok (.ireturn, 1) := dk_172 (dk_at dksJ14_length_0 10 rfl rfl)
theorem fdJ14_9_45 : sd_Fd "java/lang/String" 9 45 0 := ⟨(RJ14, TJ14, 4), "java/lang/String", rfl, by decide, rfl, in_J14, Or.inl rfl, Or.inl q832⟩
abbrev mJ14_length : sd_Y := (yJ14_length, cJ14_length, 1, some (.int), none)
def fJ14_length (G : sd_G) (a0 : Nat) : sd_M Int32 :=
  sd_bnd (sd_getR G 45 0 a0) fun v1 =>
  sd_bnd (sd_alen G v1) fun v2 =>
  sd_bnd (sd_isC G 45 a0) fun _ =>
  sd_bnd (fJ14_coder G a0) fun r3 =>
  sd_ret (v2 >>> (r3 &&& 31))
set_option maxHeartbeats 4000000 in
theorem sJ14_length (l : Launch) (G : sd_G) (a0 : Nat) (h : sd_H) (ρ : Int32) (cT : Nat × Nat) (h2 : sd_H) (hf : fJ14_length G a0 h = some (ρ, cT, h2)) : sd_Met mJ14_length ((l, G), (1, 20), [.ref a0], (sd_oI ρ, h2), cT) h := by
  refine sd_entry (plainFor_of_name rfl) rfl (Nat.le_of_ble_eq_true rfl) ?_
  show sd_J mJ14_length ((l, G), (1, 20), [.ref a0], (sd_oI ρ, h2), cT) 0 [(0, .ref a0)] [] h cT
  unfold fJ14_length at hf
  refine sj_aload_n 0 dJ14_length_0 rfl ?_
  refine sj_getR fdJ14_9_45 hf dJ14_length_1 (fun v1 hf => ?_)
  refine sj_alen hf dJ14_length_4 (fun v2 hf => ?_)
  refine sj_aload_n 0 dJ14_length_5 rfl ?_
  obtain ⟨fs6, he6, hf⟩ := sd_isC_some hf
  refine sj_cI (rest := [.int v2]) (fun _ _ _ e => sj_runV (n := 0) (As := []) (rest := [.int v2]) (sJ14_coder l G a0 h _ _ _ e) he6 rfl rfl rfl rfl q773 q774 q775 q141 q776 (by decide +kernel) rfl rfl ⟨Nat.le_of_ble_eq_true rfl, Nat.le_of_ble_eq_true rfl⟩ rfl (Nat.le_of_ble_eq_true rfl) dJ14_length_6) hf (fun r3 h c hf => ?_)
  refine sj_ishr dJ14_length_9 ?_
  exact sj_iret (o := sd_oI) hf rfl rfl rfl dJ14_length_10
/-! jdk/internal/util/Preconditions.checkIndex(IILjava/util/function/BiFunction;)I -/
abbrev cJ17_checkIndex : ByteArray := prog_99_method_11_code
def yJ17_checkIndex : MethodName := ⟨RJ17, "checkIndex", "(IILjava/util/function/BiFunction;)I"⟩
def dkwJ17_checkIndex_0 : List UInt8 := [26, 155, 0, 8, 26, 27, 161, 0, 10, 44, 26, 27, 184, 0, 95, 191, 26, 172]
abbrev dktJ17_checkIndex_0 : List UInt8 := dkwJ17_checkIndex_0 ++ []
theorem dksJ17_checkIndex_0 : cJ17_checkIndex.data.toList.drop 0 = dktJ17_checkIndex_0 := by decide +kernel
theorem dJ17_checkIndex_0 : decode cJ17_checkIndex 0 = .ok (.iload_n 0, 1) := dk_26 (dk_at dksJ17_checkIndex_0 0 rfl rfl)
theorem dJ17_checkIndex_1 : decode cJ17_checkIndex 1 = .ok (.ifCond .lt 8, 3) := dk_155 0 8 (dk_at dksJ17_checkIndex_0 1 rfl rfl)
theorem dJ17_checkIndex_4 : decode cJ17_checkIndex 4 = .ok (.iload_n 0, 1) := dk_26 (dk_at dksJ17_checkIndex_0 4 rfl rfl)
theorem dJ17_checkIndex_5 : decode cJ17_checkIndex 5 = .ok (.iload_n 1, 1) := dk_27 (dk_at dksJ17_checkIndex_0 5 rfl rfl)
theorem dJ17_checkIndex_6 : decode cJ17_checkIndex 6 = .ok (.if_icmp .lt 10, 3) := dk_161 0 10 (dk_at dksJ17_checkIndex_0 6 rfl rfl)
theorem dJ17_checkIndex_9 : decode cJ17_checkIndex 9 = .ok (.aload_n 2, 1) := dk_44 (dk_at dksJ17_checkIndex_0 9 rfl rfl)
theorem dJ17_checkIndex_10 : decode cJ17_checkIndex 10 = .ok (.iload_n 0, 1) := dk_26 (dk_at dksJ17_checkIndex_0 10 rfl rfl)
theorem dJ17_checkIndex_11 : decode cJ17_checkIndex 11 = .ok (.iload_n 1, 1) := dk_27 (dk_at dksJ17_checkIndex_0 11 rfl rfl)
theorem dJ17_checkIndex_12 : decode cJ17_checkIndex 12 = .ok (.invokestatic 95, 3) := dk_184 0 95 (dk_at dksJ17_checkIndex_0 12 rfl rfl)
theorem dJ17_checkIndex_15 : decode cJ17_checkIndex 15 = .ok (.athrow, 1) := dk_191 (dk_at dksJ17_checkIndex_0 15 rfl rfl)
theorem dJ17_checkIndex_16 : decode cJ17_checkIndex 16 = .ok (.iload_n 0, 1) := dk_26 (dk_at dksJ17_checkIndex_0 16 rfl rfl)
theorem dJ17_checkIndex_17 : decode cJ17_checkIndex 17 = .ok (.ireturn, 1) := dk_172 (dk_at dksJ17_checkIndex_0 17 rfl rfl)
abbrev mJ17_checkIndex : sd_Y := (yJ17_checkIndex, cJ17_checkIndex, 3, some (.int), none)
def fJ17_checkIndex (G : sd_G) (a1 : Int32) (a2 : Int32) (a3 : Option Nat) : sd_M Int32 :=
  if a1 < 0 then (
    sd_fail)
  else (
    if a1 < a2 then (
      sd_ret a1)
    else (
      sd_fail))
set_option maxHeartbeats 4000000 in
theorem sJ17_checkIndex (l : Launch) (G : sd_G) (a1 : Int32) (a2 : Int32) (a3 : Option Nat) (h : sd_H) (ρ : Int32) (cT : Nat × Nat) (h2 : sd_H) (hf : fJ17_checkIndex G a1 a2 a3 h = some (ρ, cT, h2)) : sd_Met mJ17_checkIndex ((l, G), (0, 0), [.int a1, .int a2, va_rf a3], (sd_oI ρ, h2), cT) h := by
  refine sd_entry (plainFor_of_name rfl) rfl (by cases a3 <;> exact Nat.le_of_ble_eq_true rfl) ?_
  have e0 : lv_args 0 [.int a1, .int a2, va_rf a3] = [(0, .int a1), (1, .int a2), (2, va_rf a3)] := by simp [lv_args, sd_cat1, Value.category]
  show sd_J mJ17_checkIndex ((l, G), (0, 0), [.int a1, .int a2, va_rf a3], (sd_oI ρ, h2), cT) 0 (lv_args 0 [.int a1, .int a2, va_rf a3]) [] h cT
  rw [e0]
  unfold fJ17_checkIndex at hf
  refine sj_iload_n 0 dJ17_checkIndex_0 rfl ?_
  refine sj_iflt 9 hf dJ17_checkIndex_1 (by decide) (fun g1 hf => ?_) (fun g1 hf => ?_)
  · cases hf
  · refine sj_iload_n 0 dJ17_checkIndex_4 rfl ?_
    refine sj_iload_n 1 dJ17_checkIndex_5 rfl ?_
    refine sj_iclt 16 hf dJ17_checkIndex_6 (by decide) (fun g6 hf => ?_) (fun g6 hf => ?_)
    · refine sj_iload_n 0 dJ17_checkIndex_16 rfl ?_
      exact sj_iret (o := sd_oI) hf rfl rfl rfl dJ17_checkIndex_17
    · cases hf
/-! java/lang/String.checkIndex(II)V -/
abbrev cJ14_checkIndex : ByteArray := prog_68_method_155_code
def yJ14_checkIndex : MethodName := ⟨RJ14, "checkIndex", "(II)V"⟩
def dkwJ14_checkIndex_0 : List UInt8 := [26, 27, 178, 4, 29, 184, 4, 35, 87, 177]
abbrev dktJ14_checkIndex_0 : List UInt8 := dkwJ14_checkIndex_0 ++ []
theorem dksJ14_checkIndex_0 : cJ14_checkIndex.data.toList.drop 0 = dktJ14_checkIndex_0 := by decide +kernel
theorem dJ14_checkIndex_0 : decode cJ14_checkIndex 0 = .ok (.iload_n 0, 1) := dk_26 (dk_at dksJ14_checkIndex_0 0 rfl rfl)
theorem dJ14_checkIndex_1 : decode cJ14_checkIndex 1 = .ok (.iload_n 1, 1) := dk_27 (dk_at dksJ14_checkIndex_0 1 rfl rfl)
theorem dJ14_checkIndex_2 : decode cJ14_checkIndex 2 = .ok (.getstatic 1053, 3) := dk_178 4 29 (dk_at dksJ14_checkIndex_0 2 rfl rfl)
theorem dJ14_checkIndex_5 : decode cJ14_checkIndex 5 = .ok (.invokestatic 1059, 3) := dk_184 4 35 (dk_at dksJ14_checkIndex_0 5 rfl rfl)
theorem dJ14_checkIndex_8 : decode cJ14_checkIndex 8 = .ok (.pop, 1) := dk_87 (dk_at dksJ14_checkIndex_0 8 rfl rfl)
theorem dJ14_checkIndex_9 : decode cJ14_checkIndex 9 = .ok (.return_, 1) := dk_177 (dk_at dksJ14_checkIndex_0 9 rfl rfl)
abbrev mJ14_checkIndex : sd_Y := (yJ14_checkIndex, cJ14_checkIndex, 2, none, none)
def fJ14_checkIndex (G : sd_G) (a1 : Int32) (a2 : Int32) : sd_M Unit :=
  sd_bnd (fJ17_checkIndex G a1 a2 (sd_aq G 0)) fun r1 =>
  sd_ret ()
set_option maxHeartbeats 4000000 in
theorem sJ14_checkIndex (l : Launch) (G : sd_G) (a1 : Int32) (a2 : Int32) (h : sd_H) (ρ : Unit) (cT : Nat × Nat) (h2 : sd_H) (hf : fJ14_checkIndex G a1 a2 h = some (ρ, cT, h2)) : sd_Met mJ14_checkIndex ((l, G), (1, 22), [.int a1, .int a2], (sd_oV ρ, h2), cT) h := by
  refine sd_entry (plainFor_of_name rfl) rfl (Nat.le_of_ble_eq_true rfl) ?_
  show sd_J mJ14_checkIndex ((l, G), (1, 22), [.int a1, .int a2], (sd_oV ρ, h2), cT) 0 [(0, .int a1), (1, .int a2)] [] h cT
  unfold fJ14_checkIndex at hf
  refine sj_iload_n 0 dJ14_checkIndex_0 rfl ?_
  refine sj_iload_n 1 dJ14_checkIndex_1 rfl ?_
  refine sj_gets (v := va_rf (sd_aq G 0)) 3 rfl rfl ⟨Or.inl q613, rfl⟩ dJ14_checkIndex_2 ?_
  refine sj_cI (rest := []) (fun _ _ _ e => sj_runS (n := 3) (rest := []) (sJ17_checkIndex l G a1 a2 (sd_aq G 0) h _ _ _ e) rfl rfl q636 q637 q144 q638 (by decide +kernel) rfl ⟨Nat.le_of_ble_eq_true rfl, Nat.le_of_ble_eq_true rfl⟩ rfl (Nat.le_of_ble_eq_true rfl) dJ14_checkIndex_5) hf (fun r1 h c hf => ?_)
  refine sj_pop dJ14_checkIndex_8 rfl ?_
  exact sj_vret (o := sd_oV) hf rfl rfl rfl dJ14_checkIndex_9
/-! java/lang/StringLatin1.charAt([BI)C -/
abbrev cJ16_charAt : ByteArray := prog_70_method_2_code
def yJ16_charAt : MethodName := ⟨RJ16, "charAt", "([BI)C"⟩
def dkwJ16_charAt_0 : List UInt8 := [27, 42, 190, 184, 0, 9, 42, 27, 51, 17, 0, 255, 126, 146, 172]
abbrev dktJ16_charAt_0 : List UInt8 := dkwJ16_charAt_0 ++ []
theorem dksJ16_charAt_0 : cJ16_charAt.data.toList.drop 0 = dktJ16_charAt_0 := by decide +kernel
theorem dJ16_charAt_0 : decode cJ16_charAt 0 = .ok (.iload_n 1, 1) := dk_27 (dk_at dksJ16_charAt_0 0 rfl rfl)
theorem dJ16_charAt_1 : decode cJ16_charAt 1 = .ok (.aload_n 0, 1) := dk_42 (dk_at dksJ16_charAt_0 1 rfl rfl)
theorem dJ16_charAt_2 : decode cJ16_charAt 2 = .ok (.arraylength, 1) := dk_190 (dk_at dksJ16_charAt_0 2 rfl rfl)
theorem dJ16_charAt_3 : decode cJ16_charAt 3 = .ok (.invokestatic 9, 3) := dk_184 0 9 (dk_at dksJ16_charAt_0 3 rfl rfl)
theorem dJ16_charAt_6 : decode cJ16_charAt 6 = .ok (.aload_n 0, 1) := dk_42 (dk_at dksJ16_charAt_0 6 rfl rfl)
theorem dJ16_charAt_7 : decode cJ16_charAt 7 = .ok (.iload_n 1, 1) := dk_27 (dk_at dksJ16_charAt_0 7 rfl rfl)
theorem dJ16_charAt_8 : decode cJ16_charAt 8 = .ok (.baload, 1) := dk_51 (dk_at dksJ16_charAt_0 8 rfl rfl)
theorem dJ16_charAt_9 : decode cJ16_charAt 9 = .ok (.sipush 255, 3) := dk_17 0 255 (dk_at dksJ16_charAt_0 9 rfl rfl)
theorem dJ16_charAt_12 : decode cJ16_charAt 12 = .ok (.iand, 1) := dk_126 (dk_at dksJ16_charAt_0 12 rfl rfl)
theorem dJ16_charAt_13 : decode cJ16_charAt 13 = .ok (.i2c, 1) := dk_146 (dk_at dksJ16_charAt_0 13 rfl rfl)
theorem dJ16_charAt_14 : decode cJ16_charAt 14 = .ok (.ireturn, 1) := dk_172 (dk_at dksJ16_charAt_0 14 rfl rfl)
abbrev mJ16_charAt : sd_Y := (yJ16_charAt, cJ16_charAt, 2, some (.char), none)
def fJ16_charAt (G : sd_G) (a1 : Nat) (a2 : Int32) : sd_M Int32 :=
  sd_bnd (sd_alen G a1) fun v1 =>
  sd_bnd (fJ14_checkIndex G a2 v1) fun _ =>
  sd_bnd (sd_aldI G 2 a1 a2) fun v2 =>
  sd_retN .char (((v2 &&& 255).toUInt32 % 65536).toInt32)
set_option maxHeartbeats 4000000 in
theorem sJ16_charAt (l : Launch) (G : sd_G) (a1 : Nat) (a2 : Int32) (h : sd_H) (ρ : Int32) (cT : Nat × Nat) (h2 : sd_H) (hf : fJ16_charAt G a1 a2 h = some (ρ, cT, h2)) : sd_Met mJ16_charAt ((l, G), (2, 43), [.ref a1, .int a2], (sd_oI ρ, h2), cT) h := by
  refine sd_entry (plainFor_of_name rfl) rfl (Nat.le_of_ble_eq_true rfl) ?_
  show sd_J mJ16_charAt ((l, G), (2, 43), [.ref a1, .int a2], (sd_oI ρ, h2), cT) 0 [(0, .ref a1), (1, .int a2)] [] h cT
  unfold fJ16_charAt at hf
  refine sj_iload_n 1 dJ16_charAt_0 rfl ?_
  refine sj_aload_n 0 dJ16_charAt_1 rfl ?_
  refine sj_alen hf dJ16_charAt_2 (fun v1 hf => ?_)
  refine sj_cV (rest := []) (fun _ _ _ e => sj_runS (n := 2) (rest := []) (sJ14_checkIndex l G a2 v1 h _ _ _ e) rfl rfl q1072 q634 q141 q635 (by decide +kernel) rfl ⟨Nat.le_of_ble_eq_true rfl, Nat.le_of_ble_eq_true rfl⟩ rfl (Nat.le_of_ble_eq_true rfl) dJ16_charAt_3) hf (fun h c hf => ?_)
  refine sj_aload_n 0 dJ16_charAt_6 rfl ?_
  refine sj_iload_n 1 dJ16_charAt_7 rfl ?_
  refine sj_bald hf dJ16_charAt_8 (fun v2 hf => ?_)
  refine sj_sipush (v := 255) dJ16_charAt_9 (by decide) ?_
  refine sj_iand dJ16_charAt_12 ?_
  refine sj_i2c dJ16_charAt_13 ?_
  exact sj_zret hf rfl rfl dJ16_charAt_14
/-! java/lang/String.charAt(I)C -/
abbrev cJ14_charAt : ByteArray := prog_68_method_56_code
def yJ14_charAt : MethodName := ⟨RJ14, "charAt", "(I)C"⟩
def dkwJ14_charAt_1 : List UInt8 := [172]
abbrev dktJ14_charAt_1 : List UInt8 := dkwJ14_charAt_1 ++ []
def dkwJ14_charAt_0 : List UInt8 := [42, 182, 1, 236, 153, 0, 12, 42, 180, 0, 9, 27, 184, 1, 239, 172, 42, 180, 0, 9, 27, 184, 1, 242]
abbrev dktJ14_charAt_0 : List UInt8 := dkwJ14_charAt_0 ++ dktJ14_charAt_1
theorem dksJ14_charAt_0 : cJ14_charAt.data.toList.drop 0 = dktJ14_charAt_0 := by decide +kernel
theorem dksJ14_charAt_1 : cJ14_charAt.data.toList.drop 24 = dktJ14_charAt_1 := dk_seg dksJ14_charAt_0 24 rfl rfl
theorem dJ14_charAt_0 : decode cJ14_charAt 0 = .ok (.aload_n 0, 1) := dk_42 (dk_at dksJ14_charAt_0 0 rfl rfl)
theorem dJ14_charAt_1 : decode cJ14_charAt 1 = .ok (.invokevirtual 492, 3) := dk_182 1 236 (dk_at dksJ14_charAt_0 1 rfl rfl)
theorem dJ14_charAt_4 : decode cJ14_charAt 4 = .ok (.ifCond .eq 12, 3) := dk_153 0 12 (dk_at dksJ14_charAt_0 4 rfl rfl)
theorem dJ14_charAt_7 : decode cJ14_charAt 7 = .ok (.aload_n 0, 1) := dk_42 (dk_at dksJ14_charAt_0 7 rfl rfl)
theorem dJ14_charAt_8 : decode cJ14_charAt 8 = .ok (.getfield 9, 3) := dk_180 0 9 (dk_at dksJ14_charAt_0 8 rfl rfl)
theorem dJ14_charAt_11 : decode cJ14_charAt 11 = .ok (.iload_n 1, 1) := dk_27 (dk_at dksJ14_charAt_0 11 rfl rfl)
theorem dJ14_charAt_12 : decode cJ14_charAt 12 = .ok (.invokestatic 495, 3) := dk_184 1 239 (dk_at dksJ14_charAt_0 12 rfl rfl)
theorem dJ14_charAt_15 : decode cJ14_charAt 15 = .ok (.ireturn, 1) := dk_172 (dk_at dksJ14_charAt_0 15 rfl rfl)
theorem dJ14_charAt_16 : decode cJ14_charAt 16 = .ok (.aload_n 0, 1) := dk_42 (dk_at dksJ14_charAt_0 16 rfl rfl)
theorem dJ14_charAt_17 : decode cJ14_charAt 17 = .ok (.getfield 9, 3) := dk_180 0 9 (dk_at dksJ14_charAt_0 17 rfl rfl)
theorem dJ14_charAt_20 : decode cJ14_charAt 20 = .ok (.iload_n 1, 1) := dk_27 (dk_at dksJ14_charAt_0 20 rfl rfl)
theorem dJ14_charAt_21 : decode cJ14_charAt 21 = .ok (.invokestatic 498, 3) := dk_184 1 242 (dk_at dksJ14_charAt_0 21 rfl rfl)
theorem dJ14_charAt_24 : decode cJ14_charAt 24 = .ok (.ireturn, 1) := dk_172 (dk_at dksJ14_charAt_1 0 rfl rfl)
abbrev mJ14_charAt : sd_Y := (yJ14_charAt, cJ14_charAt, 2, some (.char), none)
def fJ14_charAt (G : sd_G) (a0 : Nat) (a1 : Int32) : sd_M Int32 :=
  sd_bnd (sd_isC G 45 a0) fun _ =>
  sd_bnd (fJ14_isLatin1 G a0) fun r1 =>
  if r1 = 0 then (
    sd_fail)
  else (
    sd_bnd (sd_getR G 45 0 a0) fun v2 =>
    sd_bnd (fJ16_charAt G v2 a1) fun r3 =>
    sd_retN .char r3)
set_option maxHeartbeats 4000000 in
theorem sJ14_charAt (l : Launch) (G : sd_G) (a0 : Nat) (a1 : Int32) (h : sd_H) (ρ : Int32) (cT : Nat × Nat) (h2 : sd_H) (hf : fJ14_charAt G a0 a1 h = some (ρ, cT, h2)) : sd_Met mJ14_charAt ((l, G), (3, 64), [.ref a0, .int a1], (sd_oI ρ, h2), cT) h := by
  refine sd_entry (plainFor_of_name rfl) rfl (Nat.le_of_ble_eq_true rfl) ?_
  show sd_J mJ14_charAt ((l, G), (3, 64), [.ref a0, .int a1], (sd_oI ρ, h2), cT) 0 [(0, .ref a0), (1, .int a1)] [] h cT
  unfold fJ14_charAt at hf
  refine sj_aload_n 0 dJ14_charAt_0 rfl ?_
  obtain ⟨fs1, he1, hf⟩ := sd_isC_some hf
  refine sj_cI (rest := []) (fun _ _ _ e => sj_runV (n := 0) (As := []) (rest := []) (sJ14_isLatin1 l G a0 h _ _ _ e) he1 rfl rfl rfl rfl q874 q875 q876 q141 q877 (by decide +kernel) rfl rfl ⟨Nat.le_of_ble_eq_true rfl, Nat.le_of_ble_eq_true rfl⟩ rfl (Nat.le_of_ble_eq_true rfl) dJ14_charAt_1) hf (fun r1 h c hf => ?_)
  refine sj_ifeq 16 hf dJ14_charAt_4 (by decide) (fun g4 hf => ?_) (fun g4 hf => ?_)
  · cases hf
  · refine sj_aload_n 0 dJ14_charAt_7 rfl ?_
    refine sj_getR fdJ14_9_45 hf dJ14_charAt_8 (fun v2 hf => ?_)
    refine sj_iload_n 1 dJ14_charAt_11 rfl ?_
    refine sj_cI (rest := []) (fun _ _ _ e => sj_runS (n := 2) (rest := []) (sJ16_charAt l G v2 a1 h _ _ _ e) rfl rfl q1069 q1070 q143 q1071 (by decide +kernel) rfl ⟨Nat.le_of_ble_eq_true rfl, Nat.le_of_ble_eq_true rfl⟩ rfl (Nat.le_of_ble_eq_true rfl) dJ14_charAt_12) hf (fun r3 h c hf => ?_)
    exact sj_zret hf rfl rfl dJ14_charAt_15
