set_option maxRecDepth 100000
theorem q146 : (Jvm.Cond.initialized "java/lang/Integer") ∈ lw_all := lw_g (lw_at lw_m1 31 rfl) rfl
theorem q3112 : (Jvm.Cond.code ({ cls := "SofaDigModel", name := "errorAt", desc := "()I" } : Jvm.MethodName) prog_46_method_86_code (1 : Nat) (Option.some Jvm.ClassFile.FieldType.int)) ∈ lw_all := lw_g (lw_at lw_m13 117 rfl) rfl
theorem q3113 : (Jvm.Cond.methodLink "SofaDigModel" (401 : Nat) ({ cls := "SofaDigModel", name := "ok", desc := "(I)I" } : Jvm.MethodName)) ∈ lw_all := lw_g (lw_at lw_m13 118 rfl) rfl
theorem q3115 : (Jvm.Cond.instanceMethod ({ cls := "SofaDigModel", name := "ok", desc := "(I)I" } : Jvm.MethodName)) ∈ lw_all := lw_g (lw_at lw_m13 120 rfl) rfl
theorem q3120 : (Jvm.Cond.code ({ cls := "SofaDigModel", name := "seats", desc := "()I" } : Jvm.MethodName) prog_46_method_87_code (1 : Nat) (Option.some Jvm.ClassFile.FieldType.int)) ∈ lw_all := lw_g (lw_at lw_m13 125 rfl) rfl
theorem q3124 : (Jvm.Cond.code ({ cls := "SofaDigModel", name := "strata", desc := "()I" } : Jvm.MethodName) prog_46_method_88_code (1 : Nat) (Option.some Jvm.ClassFile.FieldType.int)) ∈ lw_all := lw_g (lw_at lw_m13 129 rfl) rfl
theorem q3128 : (Jvm.Cond.code ({ cls := "SofaDigModel", name := "finds", desc := "()I" } : Jvm.MethodName) prog_46_method_89_code (1 : Nat) (Option.some Jvm.ClassFile.FieldType.int)) ∈ lw_all := lw_g (lw_at lw_m13 133 rfl) rfl
theorem q3132 : (Jvm.Cond.code ({ cls := "SofaDigModel", name := "days", desc := "()I" } : Jvm.MethodName) prog_46_method_90_code (1 : Nat) (Option.some Jvm.ClassFile.FieldType.int)) ∈ lw_all := lw_g (lw_at lw_m13 137 rfl) rfl
theorem q3136 : (Jvm.Cond.code ({ cls := "SofaDigModel", name := "ordersCarriedOut", desc := "()I" } : Jvm.MethodName) prog_46_method_91_code (1 : Nat) (Option.some Jvm.ClassFile.FieldType.int)) ∈ lw_all := lw_g (lw_at lw_m13 141 rfl) rfl
theorem q3140 : (Jvm.Cond.code ({ cls := "SofaDigModel", name := "cushionsDug", desc := "()I" } : Jvm.MethodName) prog_46_method_92_code (1 : Nat) (Option.some Jvm.ClassFile.FieldType.int)) ∈ lw_all := lw_g (lw_at lw_m13 145 rfl) rfl
theorem q3144 : (Jvm.Cond.code ({ cls := "SofaDigModel", name := "slides", desc := "()I" } : Jvm.MethodName) prog_46_method_93_code (1 : Nat) (Option.some Jvm.ClassFile.FieldType.int)) ∈ lw_all := lw_g (lw_at lw_m13 149 rfl) rfl
theorem q3148 : (Jvm.Cond.code ({ cls := "SofaDigModel", name := "found", desc := "()I" } : Jvm.MethodName) prog_46_method_94_code (1 : Nat) (Option.some Jvm.ClassFile.FieldType.int)) ∈ lw_all := lw_g (lw_at lw_m13 153 rfl) rfl
theorem q3149 : (Jvm.Cond.methodLink "SofaDigModel" (164 : Nat) ({ cls := "SofaDigModel", name := "foundNow", desc := "(I)I" } : Jvm.MethodName)) ∈ lw_all := lw_g (lw_at lw_m13 154 rfl) rfl
theorem q3151 : (Jvm.Cond.instanceMethod ({ cls := "SofaDigModel", name := "foundNow", desc := "(I)I" } : Jvm.MethodName)) ∈ lw_all := lw_g (lw_at lw_m13 156 rfl) rfl
theorem q3152 : (Jvm.Cond.code ({ cls := "SofaDigModel", name := "foundNow", desc := "(I)I" } : Jvm.MethodName) prog_46_method_23_code (4 : Nat) (Option.some Jvm.ClassFile.FieldType.int)) ∈ lw_all := lw_g (lw_at lw_m13 157 rfl) rfl
theorem q3153 : (Jvm.Cond.methodLink "SofaDigModel" (106 : Nat) ({ cls := "SofaDigModel", name := "one", desc := "(Z)I" } : Jvm.MethodName)) ∈ lw_all := lw_g (lw_at lw_m13 158 rfl) rfl
theorem q3154 : (Jvm.Cond.static ({ cls := "SofaDigModel", name := "one", desc := "(Z)I" } : Jvm.MethodName)) ∈ lw_all := lw_g (lw_at lw_m13 159 rfl) rfl
theorem q3159 : (Jvm.Cond.code ({ cls := "SofaDigModel", name := "sureFinds", desc := "()I" } : Jvm.MethodName) prog_46_method_95_code (1 : Nat) (Option.some Jvm.ClassFile.FieldType.int)) ∈ lw_all := lw_g (lw_at lw_m13 164 rfl) rfl
theorem q3163 : (Jvm.Cond.code ({ cls := "SofaDigModel", name := "props", desc := "()I" } : Jvm.MethodName) prog_46_method_96_code (1 : Nat) (Option.some Jvm.ClassFile.FieldType.int)) ∈ lw_all := lw_g (lw_at lw_m13 168 rfl) rfl
theorem q3164 : (Jvm.Cond.methodLink "SofaDigModel" (143 : Nat) ({ cls := "java/lang/Integer", name := "bitCount", desc := "(I)I" } : Jvm.MethodName)) ∈ lw_all := lw_g (lw_at lw_m13 169 rfl) rfl
theorem q3165 : (Jvm.Cond.static ({ cls := "java/lang/Integer", name := "bitCount", desc := "(I)I" } : Jvm.MethodName)) ∈ lw_all := lw_g (lw_at lw_m13 170 rfl) rfl
theorem q3173 : (Jvm.Cond.code ({ cls := "SofaDigModel", name := "heightOf", desc := "(I)I" } : Jvm.MethodName) prog_46_method_97_code (2 : Nat) (Option.some Jvm.ClassFile.FieldType.int)) ∈ lw_all := lw_g (lw_at lw_m13 178 rfl) rfl
theorem q3174 : (Jvm.Cond.methodLink "SofaDigModel" (78 : Nat) ({ cls := "SofaDigModel", name := "isSeat", desc := "(I)Z" } : Jvm.MethodName)) ∈ lw_all := lw_g (lw_at lw_m13 179 rfl) rfl
theorem q3176 : (Jvm.Cond.instanceMethod ({ cls := "SofaDigModel", name := "isSeat", desc := "(I)Z" } : Jvm.MethodName)) ∈ lw_all := lw_g (lw_at lw_m13 181 rfl) rfl
theorem q3177 : (Jvm.Cond.code ({ cls := "SofaDigModel", name := "isSeat", desc := "(I)Z" } : Jvm.MethodName) prog_46_method_9_code (2 : Nat) (Option.some Jvm.ClassFile.FieldType.boolean)) ∈ lw_all := lw_g (lw_at lw_m13 182 rfl) rfl
theorem q3178 : (Jvm.Cond.methodLink "SofaDigModel" (74 : Nat) ({ cls := "SofaDigModel", name := "tall", desc := "(I)I" } : Jvm.MethodName)) ∈ lw_all := lw_g (lw_at lw_m13 183 rfl) rfl
theorem q3180 : (Jvm.Cond.instanceMethod ({ cls := "SofaDigModel", name := "tall", desc := "(I)I" } : Jvm.MethodName)) ∈ lw_all := lw_g (lw_at lw_m13 185 rfl) rfl
theorem q3181 : (Jvm.Cond.code ({ cls := "SofaDigModel", name := "tall", desc := "(I)I" } : Jvm.MethodName) prog_46_method_14_code (2 : Nat) (Option.some Jvm.ClassFile.FieldType.int)) ∈ lw_all := lw_g (lw_at lw_m13 186 rfl) rfl
theorem q3185 : (Jvm.Cond.code ({ cls := "SofaDigModel", name := "isPropped", desc := "(I)Z" } : Jvm.MethodName) prog_46_method_98_code (2 : Nat) (Option.some Jvm.ClassFile.FieldType.boolean)) ∈ lw_all := lw_g (lw_at lw_m13 190 rfl) rfl
theorem q3186 : (Jvm.Cond.methodLink "SofaDigModel" (82 : Nat) ({ cls := "SofaDigModel", name := "hasProp", desc := "(I)Z" } : Jvm.MethodName)) ∈ lw_all := lw_g (lw_at lw_m13 191 rfl) rfl
theorem q3188 : (Jvm.Cond.instanceMethod ({ cls := "SofaDigModel", name := "hasProp", desc := "(I)Z" } : Jvm.MethodName)) ∈ lw_all := lw_g (lw_at lw_m13 193 rfl) rfl
theorem q3189 : (Jvm.Cond.code ({ cls := "SofaDigModel", name := "hasProp", desc := "(I)Z" } : Jvm.MethodName) prog_46_method_16_code (2 : Nat) (Option.some Jvm.ClassFile.FieldType.boolean)) ∈ lw_all := lw_g (lw_at lw_m13 194 rfl) rfl
theorem q3190 : (Jvm.Cond.methodLink "SofaDigModel" (404 : Nat) ({ cls := "SofaDigModel", name := "isNot", desc := "(I)Z" } : Jvm.MethodName)) ∈ lw_all := lw_g (lw_at lw_m13 195 rfl) rfl
theorem q3192 : (Jvm.Cond.instanceMethod ({ cls := "SofaDigModel", name := "isNot", desc := "(I)Z" } : Jvm.MethodName)) ∈ lw_all := lw_g (lw_at lw_m13 197 rfl) rfl
theorem q3197 : (Jvm.Cond.code ({ cls := "SofaDigModel", name := "topStratum", desc := "(I)I" } : Jvm.MethodName) prog_46_method_100_code (2 : Nat) (Option.some Jvm.ClassFile.FieldType.int)) ∈ lw_all := lw_g (lw_at lw_m13 202 rfl) rfl
theorem q3198 : (Jvm.Cond.methodLink "SofaDigModel" (407 : Nat) ({ cls := "SofaDigModel", name := "hasTop", desc := "(I)Z" } : Jvm.MethodName)) ∈ lw_all := lw_g (lw_at lw_m13 203 rfl) rfl
theorem q3200 : (Jvm.Cond.instanceMethod ({ cls := "SofaDigModel", name := "hasTop", desc := "(I)Z" } : Jvm.MethodName)) ∈ lw_all := lw_g (lw_at lw_m13 205 rfl) rfl
theorem q3201 : (Jvm.Cond.code ({ cls := "SofaDigModel", name := "hasTop", desc := "(I)Z" } : Jvm.MethodName) prog_46_method_99_code (2 : Nat) (Option.some Jvm.ClassFile.FieldType.boolean)) ∈ lw_all := lw_g (lw_at lw_m13 206 rfl) rfl
theorem q3202 : (Jvm.Cond.methodLink "SofaDigModel" (89 : Nat) ({ cls := "SofaDigModel", name := "top", desc := "(I)I" } : Jvm.MethodName)) ∈ lw_all := lw_g (lw_at lw_m13 207 rfl) rfl
theorem q3204 : (Jvm.Cond.instanceMethod ({ cls := "SofaDigModel", name := "top", desc := "(I)I" } : Jvm.MethodName)) ∈ lw_all := lw_g (lw_at lw_m13 209 rfl) rfl
theorem q3205 : (Jvm.Cond.code ({ cls := "SofaDigModel", name := "top", desc := "(I)I" } : Jvm.MethodName) prog_46_method_15_code (2 : Nat) (Option.some Jvm.ClassFile.FieldType.int)) ∈ lw_all := lw_g (lw_at lw_m13 210 rfl) rfl
theorem q3209 : (Jvm.Cond.code ({ cls := "SofaDigModel", name := "isTopLoose", desc := "(I)Z" } : Jvm.MethodName) prog_46_method_101_code (2 : Nat) (Option.some Jvm.ClassFile.FieldType.boolean)) ∈ lw_all := lw_g (lw_at lw_m13 214 rfl) rfl
theorem q3213 : (Jvm.Cond.code ({ cls := "SofaDigModel", name := "hasTopSpring", desc := "(I)Z" } : Jvm.MethodName) prog_46_method_102_code (2 : Nat) (Option.some Jvm.ClassFile.FieldType.boolean)) ∈ lw_all := lw_g (lw_at lw_m13 218 rfl) rfl
theorem q3217 : (Jvm.Cond.code ({ cls := "SofaDigModel", name := "findsLeft", desc := "(I)I" } : Jvm.MethodName) prog_46_method_103_code (2 : Nat) (Option.some Jvm.ClassFile.FieldType.int)) ∈ lw_all := lw_g (lw_at lw_m13 222 rfl) rfl
theorem q3218 : (Jvm.Cond.methodLink "SofaDigModel" (410 : Nat) ({ cls := "SofaDigModel", name := "left", desc := "(I)I" } : Jvm.MethodName)) ∈ lw_all := lw_g (lw_at lw_m13 223 rfl) rfl
theorem q3220 : (Jvm.Cond.instanceMethod ({ cls := "SofaDigModel", name := "left", desc := "(I)I" } : Jvm.MethodName)) ∈ lw_all := lw_g (lw_at lw_m13 225 rfl) rfl
theorem q3221 : (Jvm.Cond.code ({ cls := "SofaDigModel", name := "left", desc := "(I)I" } : Jvm.MethodName) prog_46_method_21_code (4 : Nat) (Option.some Jvm.ClassFile.FieldType.int)) ∈ lw_all := lw_g (lw_at lw_m13 226 rfl) rfl
theorem q3225 : (Jvm.Cond.code ({ cls := "SofaDigModel", name := "isCoin", desc := "(I)Z" } : Jvm.MethodName) prog_46_method_104_code (2 : Nat) (Option.some Jvm.ClassFile.FieldType.boolean)) ∈ lw_all := lw_g (lw_at lw_m13 230 rfl) rfl
theorem q3226 : (Jvm.Cond.methodLink "SofaDigModel" (176 : Nat) ({ cls := "SofaDigModel", name := "isFind", desc := "(I)Z" } : Jvm.MethodName)) ∈ lw_all := lw_g (lw_at lw_m13 231 rfl) rfl
theorem q3228 : (Jvm.Cond.instanceMethod ({ cls := "SofaDigModel", name := "isFind", desc := "(I)Z" } : Jvm.MethodName)) ∈ lw_all := lw_g (lw_at lw_m13 233 rfl) rfl
theorem q3229 : (Jvm.Cond.code ({ cls := "SofaDigModel", name := "isFind", desc := "(I)Z" } : Jvm.MethodName) prog_46_method_10_code (2 : Nat) (Option.some Jvm.ClassFile.FieldType.boolean)) ∈ lw_all := lw_g (lw_at lw_m13 234 rfl) rfl
theorem q3233 : (Jvm.Cond.code ({ cls := "SofaDigModel", name := "isFound", desc := "(I)Z" } : Jvm.MethodName) prog_46_method_105_code (2 : Nat) (Option.some Jvm.ClassFile.FieldType.boolean)) ∈ lw_all := lw_g (lw_at lw_m13 238 rfl) rfl
theorem q3237 : (Jvm.Cond.code ({ cls := "SofaDigModel", name := "isSure", desc := "(I)Z" } : Jvm.MethodName) prog_46_method_106_code (2 : Nat) (Option.some Jvm.ClassFile.FieldType.boolean)) ∈ lw_all := lw_g (lw_at lw_m14 2 rfl) rfl
theorem q3238 : (Jvm.Cond.methodLink "SofaDigModel" (113 : Nat) ({ cls := "SofaDigModel", name := "sure", desc := "(I)Z" } : Jvm.MethodName)) ∈ lw_all := lw_g (lw_at lw_m14 3 rfl) rfl
theorem q3240 : (Jvm.Cond.instanceMethod ({ cls := "SofaDigModel", name := "sure", desc := "(I)Z" } : Jvm.MethodName)) ∈ lw_all := lw_g (lw_at lw_m14 5 rfl) rfl
theorem q3241 : (Jvm.Cond.code ({ cls := "SofaDigModel", name := "sure", desc := "(I)Z" } : Jvm.MethodName) prog_46_method_24_code (2 : Nat) (Option.some Jvm.ClassFile.FieldType.boolean)) ∈ lw_all := lw_g (lw_at lw_m14 6 rfl) rfl
theorem q3245 : (Jvm.Cond.code ({ cls := "SofaDigModel", name := "stratumOf", desc := "(I)I" } : Jvm.MethodName) prog_46_method_107_code (2 : Nat) (Option.some Jvm.ClassFile.FieldType.int)) ∈ lw_all := lw_g (lw_at lw_m14 10 rfl) rfl
theorem q3246 : (Jvm.Cond.methodLink "SofaDigModel" (116 : Nat) ({ cls := "SofaDigModel", name := "stratum", desc := "(I)I" } : Jvm.MethodName)) ∈ lw_all := lw_g (lw_at lw_m14 11 rfl) rfl
theorem q3248 : (Jvm.Cond.instanceMethod ({ cls := "SofaDigModel", name := "stratum", desc := "(I)I" } : Jvm.MethodName)) ∈ lw_all := lw_g (lw_at lw_m14 13 rfl) rfl
theorem q3249 : (Jvm.Cond.code ({ cls := "SofaDigModel", name := "stratum", desc := "(I)I" } : Jvm.MethodName) prog_46_method_25_code (2 : Nat) (Option.some Jvm.ClassFile.FieldType.int)) ∈ lw_all := lw_g (lw_at lw_m14 14 rfl) rfl
theorem q3253 : (Jvm.Cond.code ({ cls := "SofaDigModel", name := "yearOf", desc := "(I)I" } : Jvm.MethodName) prog_46_method_109_code (2 : Nat) (Option.some Jvm.ClassFile.FieldType.int)) ∈ lw_all := lw_g (lw_at lw_m14 18 rfl) rfl
theorem q3254 : (Jvm.Cond.methodLink "SofaDigModel" (413 : Nat) ({ cls := "SofaDigModel", name := "whatOf", desc := "(IZ)I" } : Jvm.MethodName)) ∈ lw_all := lw_g (lw_at lw_m14 19 rfl) rfl
theorem q3256 : (Jvm.Cond.instanceMethod ({ cls := "SofaDigModel", name := "whatOf", desc := "(IZ)I" } : Jvm.MethodName)) ∈ lw_all := lw_g (lw_at lw_m14 21 rfl) rfl
theorem q3257 : (Jvm.Cond.code ({ cls := "SofaDigModel", name := "whatOf", desc := "(IZ)I" } : Jvm.MethodName) prog_46_method_108_code (3 : Nat) (Option.some Jvm.ClassFile.FieldType.int)) ∈ lw_all := lw_g (lw_at lw_m14 22 rfl) rfl
theorem q3261 : (Jvm.Cond.code ({ cls := "SofaDigModel", name := "empireOf", desc := "(I)I" } : Jvm.MethodName) prog_46_method_110_code (2 : Nat) (Option.some Jvm.ClassFile.FieldType.int)) ∈ lw_all := lw_g (lw_at lw_m14 26 rfl) rfl
theorem q3269 : (Jvm.Cond.code ({ cls := "SofaDigModel", name := "buried", desc := "(I)I" } : Jvm.MethodName) prog_46_method_22_code (4 : Nat) (Option.some Jvm.ClassFile.FieldType.int)) ∈ lw_all := lw_g (lw_at lw_m14 34 rfl) rfl
/-! SofaDigModel.errorAt()I -/
abbrev cX5_errorAt : ByteArray := prog_46_method_86_code
def yX5_errorAt : MethodName := ⟨RX5, "errorAt", "()I"⟩
def dkwX5_errorAt_0 : List UInt8 := [42, 42, 180, 0, 13, 182, 1, 145, 172]
abbrev dktX5_errorAt_0 : List UInt8 := dkwX5_errorAt_0 ++ []
theorem dksX5_errorAt_0 : cX5_errorAt.data.toList.drop 0 = dktX5_errorAt_0 := by decide +kernel
theorem dX5_errorAt_0 : decode cX5_errorAt 0 = .ok (.aload_n 0, 1) := dk_42 (dk_at dksX5_errorAt_0 0 rfl rfl)
theorem dX5_errorAt_1 : decode cX5_errorAt 1 = .ok (.aload_n 0, 1) := dk_42 (dk_at dksX5_errorAt_0 1 rfl rfl)
theorem dX5_errorAt_2 : decode cX5_errorAt 2 = .ok (.getfield 13, 3) := dk_180 0 13 (dk_at dksX5_errorAt_0 2 rfl rfl)
theorem dX5_errorAt_5 : decode cX5_errorAt 5 = .ok (.invokevirtual 401, 3) := dk_182 1 145 (dk_at dksX5_errorAt_0 5 rfl rfl)
theorem dX5_errorAt_8 : decode cX5_errorAt 8 = .ok (.ireturn, 1) := dk_172 (dk_at dksX5_errorAt_0 8 rfl rfl)
theorem fdX5_13_4 : sd_Fd "SofaDigModel" 13 4 3 := ⟨(RX5, TX5, 18), "SofaDigModel", rfl, by decide, rfl, in_X5, Or.inl rfl, Or.inl q2853⟩
abbrev mX5_errorAt : sd_Y := (yX5_errorAt, cX5_errorAt, 1, some (.int), none)
def fX5_errorAt (G : sd_G) (a0 : Nat) : sd_M Int32 :=
  sd_bnd (sd_getI G 4 3 a0) fun v1 =>
  sd_bnd (sd_isC G 4 a0) fun _ =>
  sd_bnd (fX5_ok G a0 v1) fun r2 =>
  sd_ret r2
set_option maxHeartbeats 4000000 in
theorem sX5_errorAt (l : Launch) (G : sd_G) (a0 : Nat) (h : sd_H) (ρ : Int32) (cT : Nat × Nat) (h2 : sd_H) (hf : fX5_errorAt G a0 h = some (ρ, cT, h2)) : sd_Met mX5_errorAt ((l, G), (1, 21), [.ref a0], (sd_oI ρ, h2), cT) h := by
  refine sd_entry (plainFor_of_name rfl) rfl (Nat.le_of_ble_eq_true rfl) ?_
  show sd_J mX5_errorAt ((l, G), (1, 21), [.ref a0], (sd_oI ρ, h2), cT) 0 [(0, .ref a0)] [] h cT
  unfold fX5_errorAt at hf
  refine sj_aload_n 0 dX5_errorAt_0 rfl ?_
  refine sj_aload_n 0 dX5_errorAt_1 rfl ?_
  refine sj_getI fdX5_13_4 hf dX5_errorAt_2 (fun v1 hf => ?_)
  obtain ⟨fs5, he5, hf⟩ := sd_isC_some hf
  refine sj_cI (rest := []) (fun _ _ _ e => sj_runV (n := 1) (As := [.int v1]) (rest := []) (sX5_ok l G a0 v1 h _ _ _ e) he5 rfl rfl rfl rfl q3113 q3115 qs82 q127 q3116 (by decide +kernel) rfl rfl ⟨Nat.le_of_ble_eq_true rfl, Nat.le_of_ble_eq_true rfl⟩ rfl (Nat.le_of_ble_eq_true rfl) dX5_errorAt_5) hf (fun r2 h c hf => ?_)
  exact sj_iret (o := sd_oI) hf rfl rfl rfl dX5_errorAt_8
/-! SofaDigModel.seats()I -/
abbrev cX5_seats : ByteArray := prog_46_method_87_code
def yX5_seats : MethodName := ⟨RX5, "seats", "()I"⟩
def dkwX5_seats_0 : List UInt8 := [42, 42, 180, 0, 20, 180, 0, 52, 182, 1, 145, 172]
abbrev dktX5_seats_0 : List UInt8 := dkwX5_seats_0 ++ []
theorem dksX5_seats_0 : cX5_seats.data.toList.drop 0 = dktX5_seats_0 := by decide +kernel
theorem dX5_seats_0 : decode cX5_seats 0 = .ok (.aload_n 0, 1) := dk_42 (dk_at dksX5_seats_0 0 rfl rfl)
theorem dX5_seats_1 : decode cX5_seats 1 = .ok (.aload_n 0, 1) := dk_42 (dk_at dksX5_seats_0 1 rfl rfl)
theorem dX5_seats_2 : decode cX5_seats 2 = .ok (.getfield 20, 3) := dk_180 0 20 (dk_at dksX5_seats_0 2 rfl rfl)
theorem dX5_seats_5 : decode cX5_seats 5 = .ok (.getfield 52, 3) := dk_180 0 52 (dk_at dksX5_seats_0 5 rfl rfl)
theorem dX5_seats_8 : decode cX5_seats 8 = .ok (.invokevirtual 401, 3) := dk_182 1 145 (dk_at dksX5_seats_0 8 rfl rfl)
theorem dX5_seats_11 : decode cX5_seats 11 = .ok (.ireturn, 1) := dk_172 (dk_at dksX5_seats_0 11 rfl rfl)
abbrev mX5_seats : sd_Y := (yX5_seats, cX5_seats, 1, some (.int), none)
def fX5_seats (G : sd_G) (a0 : Nat) : sd_M Int32 :=
  sd_bnd (sd_getR G 4 4 a0) fun v1 =>
  sd_bnd (sd_getI G 5 0 v1) fun v2 =>
  sd_bnd (sd_isC G 4 a0) fun _ =>
  sd_bnd (fX5_ok G a0 v2) fun r3 =>
  sd_ret r3
set_option maxHeartbeats 4000000 in
theorem sX5_seats (l : Launch) (G : sd_G) (a0 : Nat) (h : sd_H) (ρ : Int32) (cT : Nat × Nat) (h2 : sd_H) (hf : fX5_seats G a0 h = some (ρ, cT, h2)) : sd_Met mX5_seats ((l, G), (1, 21), [.ref a0], (sd_oI ρ, h2), cT) h := by
  refine sd_entry (plainFor_of_name rfl) rfl (Nat.le_of_ble_eq_true rfl) ?_
  show sd_J mX5_seats ((l, G), (1, 21), [.ref a0], (sd_oI ρ, h2), cT) 0 [(0, .ref a0)] [] h cT
  unfold fX5_seats at hf
  refine sj_aload_n 0 dX5_seats_0 rfl ?_
  refine sj_aload_n 0 dX5_seats_1 rfl ?_
  refine sj_getR fdX5_20_4 hf dX5_seats_2 (fun v1 hf => ?_)
  refine sj_getI fdX5_52_5 hf dX5_seats_5 (fun v2 hf => ?_)
  obtain ⟨fs8, he8, hf⟩ := sd_isC_some hf
  refine sj_cI (rest := []) (fun _ _ _ e => sj_runV (n := 1) (As := [.int v2]) (rest := []) (sX5_ok l G a0 v2 h _ _ _ e) he8 rfl rfl rfl rfl q3113 q3115 qs82 q127 q3116 (by decide +kernel) rfl rfl ⟨Nat.le_of_ble_eq_true rfl, Nat.le_of_ble_eq_true rfl⟩ rfl (Nat.le_of_ble_eq_true rfl) dX5_seats_8) hf (fun r3 h c hf => ?_)
  exact sj_iret (o := sd_oI) hf rfl rfl rfl dX5_seats_11
/-! SofaDigModel.strata()I -/
abbrev cX5_strata : ByteArray := prog_46_method_88_code
def yX5_strata : MethodName := ⟨RX5, "strata", "()I"⟩
def dkwX5_strata_0 : List UInt8 := [42, 42, 180, 0, 20, 180, 0, 55, 182, 1, 145, 172]
abbrev dktX5_strata_0 : List UInt8 := dkwX5_strata_0 ++ []
theorem dksX5_strata_0 : cX5_strata.data.toList.drop 0 = dktX5_strata_0 := by decide +kernel
theorem dX5_strata_0 : decode cX5_strata 0 = .ok (.aload_n 0, 1) := dk_42 (dk_at dksX5_strata_0 0 rfl rfl)
theorem dX5_strata_1 : decode cX5_strata 1 = .ok (.aload_n 0, 1) := dk_42 (dk_at dksX5_strata_0 1 rfl rfl)
theorem dX5_strata_2 : decode cX5_strata 2 = .ok (.getfield 20, 3) := dk_180 0 20 (dk_at dksX5_strata_0 2 rfl rfl)
theorem dX5_strata_5 : decode cX5_strata 5 = .ok (.getfield 55, 3) := dk_180 0 55 (dk_at dksX5_strata_0 5 rfl rfl)
theorem dX5_strata_8 : decode cX5_strata 8 = .ok (.invokevirtual 401, 3) := dk_182 1 145 (dk_at dksX5_strata_0 8 rfl rfl)
theorem dX5_strata_11 : decode cX5_strata 11 = .ok (.ireturn, 1) := dk_172 (dk_at dksX5_strata_0 11 rfl rfl)
abbrev mX5_strata : sd_Y := (yX5_strata, cX5_strata, 1, some (.int), none)
def fX5_strata (G : sd_G) (a0 : Nat) : sd_M Int32 :=
  sd_bnd (sd_getR G 4 4 a0) fun v1 =>
  sd_bnd (sd_getI G 5 1 v1) fun v2 =>
  sd_bnd (sd_isC G 4 a0) fun _ =>
  sd_bnd (fX5_ok G a0 v2) fun r3 =>
  sd_ret r3
set_option maxHeartbeats 4000000 in
theorem sX5_strata (l : Launch) (G : sd_G) (a0 : Nat) (h : sd_H) (ρ : Int32) (cT : Nat × Nat) (h2 : sd_H) (hf : fX5_strata G a0 h = some (ρ, cT, h2)) : sd_Met mX5_strata ((l, G), (1, 21), [.ref a0], (sd_oI ρ, h2), cT) h := by
  refine sd_entry (plainFor_of_name rfl) rfl (Nat.le_of_ble_eq_true rfl) ?_
  show sd_J mX5_strata ((l, G), (1, 21), [.ref a0], (sd_oI ρ, h2), cT) 0 [(0, .ref a0)] [] h cT
  unfold fX5_strata at hf
  refine sj_aload_n 0 dX5_strata_0 rfl ?_
  refine sj_aload_n 0 dX5_strata_1 rfl ?_
  refine sj_getR fdX5_20_4 hf dX5_strata_2 (fun v1 hf => ?_)
  refine sj_getI fdX5_55_5 hf dX5_strata_5 (fun v2 hf => ?_)
  obtain ⟨fs8, he8, hf⟩ := sd_isC_some hf
  refine sj_cI (rest := []) (fun _ _ _ e => sj_runV (n := 1) (As := [.int v2]) (rest := []) (sX5_ok l G a0 v2 h _ _ _ e) he8 rfl rfl rfl rfl q3113 q3115 qs82 q127 q3116 (by decide +kernel) rfl rfl ⟨Nat.le_of_ble_eq_true rfl, Nat.le_of_ble_eq_true rfl⟩ rfl (Nat.le_of_ble_eq_true rfl) dX5_strata_8) hf (fun r3 h c hf => ?_)
  exact sj_iret (o := sd_oI) hf rfl rfl rfl dX5_strata_11
/-! SofaDigModel.finds()I -/
abbrev cX5_finds : ByteArray := prog_46_method_89_code
def yX5_finds : MethodName := ⟨RX5, "finds", "()I"⟩
def dkwX5_finds_0 : List UInt8 := [42, 42, 180, 0, 20, 180, 0, 65, 182, 1, 145, 172]
abbrev dktX5_finds_0 : List UInt8 := dkwX5_finds_0 ++ []
theorem dksX5_finds_0 : cX5_finds.data.toList.drop 0 = dktX5_finds_0 := by decide +kernel
theorem dX5_finds_0 : decode cX5_finds 0 = .ok (.aload_n 0, 1) := dk_42 (dk_at dksX5_finds_0 0 rfl rfl)
theorem dX5_finds_1 : decode cX5_finds 1 = .ok (.aload_n 0, 1) := dk_42 (dk_at dksX5_finds_0 1 rfl rfl)
theorem dX5_finds_2 : decode cX5_finds 2 = .ok (.getfield 20, 3) := dk_180 0 20 (dk_at dksX5_finds_0 2 rfl rfl)
theorem dX5_finds_5 : decode cX5_finds 5 = .ok (.getfield 65, 3) := dk_180 0 65 (dk_at dksX5_finds_0 5 rfl rfl)
theorem dX5_finds_8 : decode cX5_finds 8 = .ok (.invokevirtual 401, 3) := dk_182 1 145 (dk_at dksX5_finds_0 8 rfl rfl)
theorem dX5_finds_11 : decode cX5_finds 11 = .ok (.ireturn, 1) := dk_172 (dk_at dksX5_finds_0 11 rfl rfl)
abbrev mX5_finds : sd_Y := (yX5_finds, cX5_finds, 1, some (.int), none)
def fX5_finds (G : sd_G) (a0 : Nat) : sd_M Int32 :=
  sd_bnd (sd_getR G 4 4 a0) fun v1 =>
  sd_bnd (sd_getI G 5 6 v1) fun v2 =>
  sd_bnd (sd_isC G 4 a0) fun _ =>
  sd_bnd (fX5_ok G a0 v2) fun r3 =>
  sd_ret r3
set_option maxHeartbeats 4000000 in
theorem sX5_finds (l : Launch) (G : sd_G) (a0 : Nat) (h : sd_H) (ρ : Int32) (cT : Nat × Nat) (h2 : sd_H) (hf : fX5_finds G a0 h = some (ρ, cT, h2)) : sd_Met mX5_finds ((l, G), (1, 21), [.ref a0], (sd_oI ρ, h2), cT) h := by
  refine sd_entry (plainFor_of_name rfl) rfl (Nat.le_of_ble_eq_true rfl) ?_
  show sd_J mX5_finds ((l, G), (1, 21), [.ref a0], (sd_oI ρ, h2), cT) 0 [(0, .ref a0)] [] h cT
  unfold fX5_finds at hf
  refine sj_aload_n 0 dX5_finds_0 rfl ?_
  refine sj_aload_n 0 dX5_finds_1 rfl ?_
  refine sj_getR fdX5_20_4 hf dX5_finds_2 (fun v1 hf => ?_)
  refine sj_getI fdX5_65_5 hf dX5_finds_5 (fun v2 hf => ?_)
  obtain ⟨fs8, he8, hf⟩ := sd_isC_some hf
  refine sj_cI (rest := []) (fun _ _ _ e => sj_runV (n := 1) (As := [.int v2]) (rest := []) (sX5_ok l G a0 v2 h _ _ _ e) he8 rfl rfl rfl rfl q3113 q3115 qs82 q127 q3116 (by decide +kernel) rfl rfl ⟨Nat.le_of_ble_eq_true rfl, Nat.le_of_ble_eq_true rfl⟩ rfl (Nat.le_of_ble_eq_true rfl) dX5_finds_8) hf (fun r3 h c hf => ?_)
  exact sj_iret (o := sd_oI) hf rfl rfl rfl dX5_finds_11
/-! SofaDigModel.days()I -/
abbrev cX5_days : ByteArray := prog_46_method_90_code
def yX5_days : MethodName := ⟨RX5, "days", "()I"⟩
def dkwX5_days_0 : List UInt8 := [42, 42, 180, 0, 40, 3, 46, 182, 1, 145, 172]
abbrev dktX5_days_0 : List UInt8 := dkwX5_days_0 ++ []
theorem dksX5_days_0 : cX5_days.data.toList.drop 0 = dktX5_days_0 := by decide +kernel
theorem dX5_days_0 : decode cX5_days 0 = .ok (.aload_n 0, 1) := dk_42 (dk_at dksX5_days_0 0 rfl rfl)
theorem dX5_days_1 : decode cX5_days 1 = .ok (.aload_n 0, 1) := dk_42 (dk_at dksX5_days_0 1 rfl rfl)
theorem dX5_days_2 : decode cX5_days 2 = .ok (.getfield 40, 3) := dk_180 0 40 (dk_at dksX5_days_0 2 rfl rfl)
theorem dX5_days_5 : decode cX5_days 5 = .ok (.iconst 0, 1) := dk_3 (dk_at dksX5_days_0 5 rfl rfl)
theorem dX5_days_6 : decode cX5_days 6 = .ok (.iaload, 1) := dk_46 (dk_at dksX5_days_0 6 rfl rfl)
theorem dX5_days_7 : decode cX5_days 7 = .ok (.invokevirtual 401, 3) := dk_182 1 145 (dk_at dksX5_days_0 7 rfl rfl)
theorem dX5_days_10 : decode cX5_days 10 = .ok (.ireturn, 1) := dk_172 (dk_at dksX5_days_0 10 rfl rfl)
abbrev mX5_days : sd_Y := (yX5_days, cX5_days, 1, some (.int), none)
def fX5_days (G : sd_G) (a0 : Nat) : sd_M Int32 :=
  sd_bnd (sd_getR G 4 15 a0) fun v1 =>
  sd_bnd (sd_aldI G 0 v1 0) fun v2 =>
  sd_bnd (sd_isC G 4 a0) fun _ =>
  sd_bnd (fX5_ok G a0 v2) fun r3 =>
  sd_ret r3
set_option maxHeartbeats 4000000 in
theorem sX5_days (l : Launch) (G : sd_G) (a0 : Nat) (h : sd_H) (ρ : Int32) (cT : Nat × Nat) (h2 : sd_H) (hf : fX5_days G a0 h = some (ρ, cT, h2)) : sd_Met mX5_days ((l, G), (1, 21), [.ref a0], (sd_oI ρ, h2), cT) h := by
  refine sd_entry (plainFor_of_name rfl) rfl (Nat.le_of_ble_eq_true rfl) ?_
  show sd_J mX5_days ((l, G), (1, 21), [.ref a0], (sd_oI ρ, h2), cT) 0 [(0, .ref a0)] [] h cT
  unfold fX5_days at hf
  refine sj_aload_n 0 dX5_days_0 rfl ?_
  refine sj_aload_n 0 dX5_days_1 rfl ?_
  refine sj_getR fdX5_40_4 hf dX5_days_2 (fun v1 hf => ?_)
  refine sj_iconst (v := 0) dX5_days_5 (by decide) ?_
  refine sj_iald hf dX5_days_6 (fun v2 hf => ?_)
  obtain ⟨fs7, he7, hf⟩ := sd_isC_some hf
  refine sj_cI (rest := []) (fun _ _ _ e => sj_runV (n := 1) (As := [.int v2]) (rest := []) (sX5_ok l G a0 v2 h _ _ _ e) he7 rfl rfl rfl rfl q3113 q3115 qs82 q127 q3116 (by decide +kernel) rfl rfl ⟨Nat.le_of_ble_eq_true rfl, Nat.le_of_ble_eq_true rfl⟩ rfl (Nat.le_of_ble_eq_true rfl) dX5_days_7) hf (fun r3 h c hf => ?_)
  exact sj_iret (o := sd_oI) hf rfl rfl rfl dX5_days_10
/-! SofaDigModel.ordersCarriedOut()I -/
abbrev cX5_ordersCarriedOut : ByteArray := prog_46_method_91_code
def yX5_ordersCarriedOut : MethodName := ⟨RX5, "ordersCarriedOut", "()I"⟩
def dkwX5_ordersCarriedOut_0 : List UInt8 := [42, 42, 180, 0, 40, 4, 46, 182, 1, 145, 172]
abbrev dktX5_ordersCarriedOut_0 : List UInt8 := dkwX5_ordersCarriedOut_0 ++ []
theorem dksX5_ordersCarriedOut_0 : cX5_ordersCarriedOut.data.toList.drop 0 = dktX5_ordersCarriedOut_0 := by decide +kernel
theorem dX5_ordersCarriedOut_0 : decode cX5_ordersCarriedOut 0 = .ok (.aload_n 0, 1) := dk_42 (dk_at dksX5_ordersCarriedOut_0 0 rfl rfl)
theorem dX5_ordersCarriedOut_1 : decode cX5_ordersCarriedOut 1 = .ok (.aload_n 0, 1) := dk_42 (dk_at dksX5_ordersCarriedOut_0 1 rfl rfl)
theorem dX5_ordersCarriedOut_2 : decode cX5_ordersCarriedOut 2 = .ok (.getfield 40, 3) := dk_180 0 40 (dk_at dksX5_ordersCarriedOut_0 2 rfl rfl)
theorem dX5_ordersCarriedOut_5 : decode cX5_ordersCarriedOut 5 = .ok (.iconst 1, 1) := dk_4 (dk_at dksX5_ordersCarriedOut_0 5 rfl rfl)
theorem dX5_ordersCarriedOut_6 : decode cX5_ordersCarriedOut 6 = .ok (.iaload, 1) := dk_46 (dk_at dksX5_ordersCarriedOut_0 6 rfl rfl)
theorem dX5_ordersCarriedOut_7 : decode cX5_ordersCarriedOut 7 = .ok (.invokevirtual 401, 3) := dk_182 1 145 (dk_at dksX5_ordersCarriedOut_0 7 rfl rfl)
theorem dX5_ordersCarriedOut_10 : decode cX5_ordersCarriedOut 10 = .ok (.ireturn, 1) := dk_172 (dk_at dksX5_ordersCarriedOut_0 10 rfl rfl)
abbrev mX5_ordersCarriedOut : sd_Y := (yX5_ordersCarriedOut, cX5_ordersCarriedOut, 1, some (.int), none)
def fX5_ordersCarriedOut (G : sd_G) (a0 : Nat) : sd_M Int32 :=
  sd_bnd (sd_getR G 4 15 a0) fun v1 =>
  sd_bnd (sd_aldI G 0 v1 1) fun v2 =>
  sd_bnd (sd_isC G 4 a0) fun _ =>
  sd_bnd (fX5_ok G a0 v2) fun r3 =>
  sd_ret r3
set_option maxHeartbeats 4000000 in
theorem sX5_ordersCarriedOut (l : Launch) (G : sd_G) (a0 : Nat) (h : sd_H) (ρ : Int32) (cT : Nat × Nat) (h2 : sd_H) (hf : fX5_ordersCarriedOut G a0 h = some (ρ, cT, h2)) : sd_Met mX5_ordersCarriedOut ((l, G), (1, 21), [.ref a0], (sd_oI ρ, h2), cT) h := by
  refine sd_entry (plainFor_of_name rfl) rfl (Nat.le_of_ble_eq_true rfl) ?_
  show sd_J mX5_ordersCarriedOut ((l, G), (1, 21), [.ref a0], (sd_oI ρ, h2), cT) 0 [(0, .ref a0)] [] h cT
  unfold fX5_ordersCarriedOut at hf
  refine sj_aload_n 0 dX5_ordersCarriedOut_0 rfl ?_
  refine sj_aload_n 0 dX5_ordersCarriedOut_1 rfl ?_
  refine sj_getR fdX5_40_4 hf dX5_ordersCarriedOut_2 (fun v1 hf => ?_)
  refine sj_iconst (v := 1) dX5_ordersCarriedOut_5 (by decide) ?_
  refine sj_iald hf dX5_ordersCarriedOut_6 (fun v2 hf => ?_)
  obtain ⟨fs7, he7, hf⟩ := sd_isC_some hf
  refine sj_cI (rest := []) (fun _ _ _ e => sj_runV (n := 1) (As := [.int v2]) (rest := []) (sX5_ok l G a0 v2 h _ _ _ e) he7 rfl rfl rfl rfl q3113 q3115 qs82 q127 q3116 (by decide +kernel) rfl rfl ⟨Nat.le_of_ble_eq_true rfl, Nat.le_of_ble_eq_true rfl⟩ rfl (Nat.le_of_ble_eq_true rfl) dX5_ordersCarriedOut_7) hf (fun r3 h c hf => ?_)
  exact sj_iret (o := sd_oI) hf rfl rfl rfl dX5_ordersCarriedOut_10
/-! SofaDigModel.cushionsDug()I -/
abbrev cX5_cushionsDug : ByteArray := prog_46_method_92_code
def yX5_cushionsDug : MethodName := ⟨RX5, "cushionsDug", "()I"⟩
def dkwX5_cushionsDug_0 : List UInt8 := [42, 42, 180, 0, 40, 5, 46, 182, 1, 145, 172]
abbrev dktX5_cushionsDug_0 : List UInt8 := dkwX5_cushionsDug_0 ++ []
theorem dksX5_cushionsDug_0 : cX5_cushionsDug.data.toList.drop 0 = dktX5_cushionsDug_0 := by decide +kernel
theorem dX5_cushionsDug_0 : decode cX5_cushionsDug 0 = .ok (.aload_n 0, 1) := dk_42 (dk_at dksX5_cushionsDug_0 0 rfl rfl)
theorem dX5_cushionsDug_1 : decode cX5_cushionsDug 1 = .ok (.aload_n 0, 1) := dk_42 (dk_at dksX5_cushionsDug_0 1 rfl rfl)
theorem dX5_cushionsDug_2 : decode cX5_cushionsDug 2 = .ok (.getfield 40, 3) := dk_180 0 40 (dk_at dksX5_cushionsDug_0 2 rfl rfl)
theorem dX5_cushionsDug_5 : decode cX5_cushionsDug 5 = .ok (.iconst 2, 1) := dk_5 (dk_at dksX5_cushionsDug_0 5 rfl rfl)
theorem dX5_cushionsDug_6 : decode cX5_cushionsDug 6 = .ok (.iaload, 1) := dk_46 (dk_at dksX5_cushionsDug_0 6 rfl rfl)
theorem dX5_cushionsDug_7 : decode cX5_cushionsDug 7 = .ok (.invokevirtual 401, 3) := dk_182 1 145 (dk_at dksX5_cushionsDug_0 7 rfl rfl)
theorem dX5_cushionsDug_10 : decode cX5_cushionsDug 10 = .ok (.ireturn, 1) := dk_172 (dk_at dksX5_cushionsDug_0 10 rfl rfl)
abbrev mX5_cushionsDug : sd_Y := (yX5_cushionsDug, cX5_cushionsDug, 1, some (.int), none)
def fX5_cushionsDug (G : sd_G) (a0 : Nat) : sd_M Int32 :=
  sd_bnd (sd_getR G 4 15 a0) fun v1 =>
  sd_bnd (sd_aldI G 0 v1 2) fun v2 =>
  sd_bnd (sd_isC G 4 a0) fun _ =>
  sd_bnd (fX5_ok G a0 v2) fun r3 =>
  sd_ret r3
set_option maxHeartbeats 4000000 in
theorem sX5_cushionsDug (l : Launch) (G : sd_G) (a0 : Nat) (h : sd_H) (ρ : Int32) (cT : Nat × Nat) (h2 : sd_H) (hf : fX5_cushionsDug G a0 h = some (ρ, cT, h2)) : sd_Met mX5_cushionsDug ((l, G), (1, 21), [.ref a0], (sd_oI ρ, h2), cT) h := by
  refine sd_entry (plainFor_of_name rfl) rfl (Nat.le_of_ble_eq_true rfl) ?_
  show sd_J mX5_cushionsDug ((l, G), (1, 21), [.ref a0], (sd_oI ρ, h2), cT) 0 [(0, .ref a0)] [] h cT
  unfold fX5_cushionsDug at hf
  refine sj_aload_n 0 dX5_cushionsDug_0 rfl ?_
  refine sj_aload_n 0 dX5_cushionsDug_1 rfl ?_
  refine sj_getR fdX5_40_4 hf dX5_cushionsDug_2 (fun v1 hf => ?_)
  refine sj_iconst (v := 2) dX5_cushionsDug_5 (by decide) ?_
  refine sj_iald hf dX5_cushionsDug_6 (fun v2 hf => ?_)
  obtain ⟨fs7, he7, hf⟩ := sd_isC_some hf
  refine sj_cI (rest := []) (fun _ _ _ e => sj_runV (n := 1) (As := [.int v2]) (rest := []) (sX5_ok l G a0 v2 h _ _ _ e) he7 rfl rfl rfl rfl q3113 q3115 qs82 q127 q3116 (by decide +kernel) rfl rfl ⟨Nat.le_of_ble_eq_true rfl, Nat.le_of_ble_eq_true rfl⟩ rfl (Nat.le_of_ble_eq_true rfl) dX5_cushionsDug_7) hf (fun r3 h c hf => ?_)
  exact sj_iret (o := sd_oI) hf rfl rfl rfl dX5_cushionsDug_10
/-! SofaDigModel.slides()I -/
abbrev cX5_slides : ByteArray := prog_46_method_93_code
def yX5_slides : MethodName := ⟨RX5, "slides", "()I"⟩
def dkwX5_slides_0 : List UInt8 := [42, 42, 180, 0, 40, 6, 46, 182, 1, 145, 172]
abbrev dktX5_slides_0 : List UInt8 := dkwX5_slides_0 ++ []
theorem dksX5_slides_0 : cX5_slides.data.toList.drop 0 = dktX5_slides_0 := by decide +kernel
theorem dX5_slides_0 : decode cX5_slides 0 = .ok (.aload_n 0, 1) := dk_42 (dk_at dksX5_slides_0 0 rfl rfl)
theorem dX5_slides_1 : decode cX5_slides 1 = .ok (.aload_n 0, 1) := dk_42 (dk_at dksX5_slides_0 1 rfl rfl)
theorem dX5_slides_2 : decode cX5_slides 2 = .ok (.getfield 40, 3) := dk_180 0 40 (dk_at dksX5_slides_0 2 rfl rfl)
theorem dX5_slides_5 : decode cX5_slides 5 = .ok (.iconst 3, 1) := dk_6 (dk_at dksX5_slides_0 5 rfl rfl)
theorem dX5_slides_6 : decode cX5_slides 6 = .ok (.iaload, 1) := dk_46 (dk_at dksX5_slides_0 6 rfl rfl)
theorem dX5_slides_7 : decode cX5_slides 7 = .ok (.invokevirtual 401, 3) := dk_182 1 145 (dk_at dksX5_slides_0 7 rfl rfl)
theorem dX5_slides_10 : decode cX5_slides 10 = .ok (.ireturn, 1) := dk_172 (dk_at dksX5_slides_0 10 rfl rfl)
abbrev mX5_slides : sd_Y := (yX5_slides, cX5_slides, 1, some (.int), none)
def fX5_slides (G : sd_G) (a0 : Nat) : sd_M Int32 :=
  sd_bnd (sd_getR G 4 15 a0) fun v1 =>
  sd_bnd (sd_aldI G 0 v1 3) fun v2 =>
  sd_bnd (sd_isC G 4 a0) fun _ =>
  sd_bnd (fX5_ok G a0 v2) fun r3 =>
  sd_ret r3
set_option maxHeartbeats 4000000 in
theorem sX5_slides (l : Launch) (G : sd_G) (a0 : Nat) (h : sd_H) (ρ : Int32) (cT : Nat × Nat) (h2 : sd_H) (hf : fX5_slides G a0 h = some (ρ, cT, h2)) : sd_Met mX5_slides ((l, G), (1, 21), [.ref a0], (sd_oI ρ, h2), cT) h := by
  refine sd_entry (plainFor_of_name rfl) rfl (Nat.le_of_ble_eq_true rfl) ?_
  show sd_J mX5_slides ((l, G), (1, 21), [.ref a0], (sd_oI ρ, h2), cT) 0 [(0, .ref a0)] [] h cT
  unfold fX5_slides at hf
  refine sj_aload_n 0 dX5_slides_0 rfl ?_
  refine sj_aload_n 0 dX5_slides_1 rfl ?_
  refine sj_getR fdX5_40_4 hf dX5_slides_2 (fun v1 hf => ?_)
  refine sj_iconst (v := 3) dX5_slides_5 (by decide) ?_
  refine sj_iald hf dX5_slides_6 (fun v2 hf => ?_)
  obtain ⟨fs7, he7, hf⟩ := sd_isC_some hf
  refine sj_cI (rest := []) (fun _ _ _ e => sj_runV (n := 1) (As := [.int v2]) (rest := []) (sX5_ok l G a0 v2 h _ _ _ e) he7 rfl rfl rfl rfl q3113 q3115 qs82 q127 q3116 (by decide +kernel) rfl rfl ⟨Nat.le_of_ble_eq_true rfl, Nat.le_of_ble_eq_true rfl⟩ rfl (Nat.le_of_ble_eq_true rfl) dX5_slides_7) hf (fun r3 h c hf => ?_)
  exact sj_iret (o := sd_oI) hf rfl rfl rfl dX5_slides_10
/-! SofaDigModel.foundNow(I)I -/
abbrev cX5_foundNow : ByteArray := prog_46_method_23_code
def yX5_foundNow : MethodName := ⟨RX5, "foundNow", "(I)I"⟩
def dkwX5_foundNow_1 : List UInt8 := [96, 46, 27, 161, 0, 7, 4, 167, 0, 4, 3, 184, 0, 106, 96, 61, 132, 3, 1, 167, 255, 217, 28, 172]
abbrev dktX5_foundNow_1 : List UInt8 := dkwX5_foundNow_1 ++ []
def dkwX5_foundNow_0 : List UInt8 := [3, 61, 3, 62, 29, 42, 180, 0, 20, 180, 0, 65, 162, 0, 34, 28, 42, 180, 0, 40, 17, 0, 173, 29]
abbrev dktX5_foundNow_0 : List UInt8 := dkwX5_foundNow_0 ++ dktX5_foundNow_1
theorem dksX5_foundNow_0 : cX5_foundNow.data.toList.drop 0 = dktX5_foundNow_0 := by decide +kernel
theorem dksX5_foundNow_1 : cX5_foundNow.data.toList.drop 24 = dktX5_foundNow_1 := dk_seg dksX5_foundNow_0 24 rfl rfl
theorem dX5_foundNow_0 : decode cX5_foundNow 0 = .ok (.iconst 0, 1) := dk_3 (dk_at dksX5_foundNow_0 0 rfl rfl)
theorem dX5_foundNow_1 : decode cX5_foundNow 1 = .ok (.istore_n 2, 1) := dk_61 (dk_at dksX5_foundNow_0 1 rfl rfl)
theorem dX5_foundNow_2 : decode cX5_foundNow 2 = .ok (.iconst 0, 1) := dk_3 (dk_at dksX5_foundNow_0 2 rfl rfl)
theorem dX5_foundNow_3 : decode cX5_foundNow 3 = .ok (.istore_n 3, 1) := dk_62 (dk_at dksX5_foundNow_0 3 rfl rfl)
theorem dX5_foundNow_4 : decode cX5_foundNow 4 = .ok (.iload_n 3, 1) := dk_29 (dk_at dksX5_foundNow_0 4 rfl rfl)
theorem dX5_foundNow_5 : decode cX5_foundNow 5 = .ok (.aload_n 0, 1) := dk_42 (dk_at dksX5_foundNow_0 5 rfl rfl)
theorem dX5_foundNow_6 : decode cX5_foundNow 6 = .ok (.getfield 20, 3) := dk_180 0 20 (dk_at dksX5_foundNow_0 6 rfl rfl)
theorem dX5_foundNow_9 : decode cX5_foundNow 9 = .ok (.getfield 65, 3) := dk_180 0 65 (dk_at dksX5_foundNow_0 9 rfl rfl)
theorem dX5_foundNow_12 : decode cX5_foundNow 12 = .ok (.if_icmp .ge 34, 3) := dk_162 0 34 (dk_at dksX5_foundNow_0 12 rfl rfl)
theorem dX5_foundNow_15 : decode cX5_foundNow 15 = .ok (.iload_n 2, 1) := dk_28 (dk_at dksX5_foundNow_0 15 rfl rfl)
theorem dX5_foundNow_16 : decode cX5_foundNow 16 = .ok (.aload_n 0, 1) := dk_42 (dk_at dksX5_foundNow_0 16 rfl rfl)
theorem dX5_foundNow_17 : decode cX5_foundNow 17 = .ok (.getfield 40, 3) := dk_180 0 40 (dk_at dksX5_foundNow_0 17 rfl rfl)
theorem dX5_foundNow_20 : decode cX5_foundNow 20 = .ok (.sipush 173, 3) := dk_17 0 173 (dk_at dksX5_foundNow_0 20 rfl rfl)
theorem dX5_foundNow_23 : decode cX5_foundNow 23 = .ok (.iload_n 3, 1) := dk_29 (dk_at dksX5_foundNow_0 23 rfl rfl)
theorem dX5_foundNow_24 : decode cX5_foundNow 24 = .ok (.iadd, 1) := dk_96 (dk_at dksX5_foundNow_1 0 rfl rfl)
theorem dX5_foundNow_25 : decode cX5_foundNow 25 = .ok (.iaload, 1) := dk_46 (dk_at dksX5_foundNow_1 1 rfl rfl)
theorem dX5_foundNow_26 : decode cX5_foundNow 26 = .ok (.iload_n 1, 1) := dk_27 (dk_at dksX5_foundNow_1 2 rfl rfl)
theorem dX5_foundNow_27 : decode cX5_foundNow 27 = .ok (.if_icmp .lt 7, 3) := dk_161 0 7 (dk_at dksX5_foundNow_1 3 rfl rfl)
theorem dX5_foundNow_30 : decode cX5_foundNow 30 = .ok (.iconst 1, 1) := dk_4 (dk_at dksX5_foundNow_1 6 rfl rfl)
theorem dX5_foundNow_31 : decode cX5_foundNow 31 = .ok (.goto 4, 3) := dk_167 0 4 (dk_at dksX5_foundNow_1 7 rfl rfl)
theorem dX5_foundNow_34 : decode cX5_foundNow 34 = .ok (.iconst 0, 1) := dk_3 (dk_at dksX5_foundNow_1 10 rfl rfl)
theorem dX5_foundNow_35 : decode cX5_foundNow 35 = .ok (.invokestatic 106, 3) := dk_184 0 106 (dk_at dksX5_foundNow_1 11 rfl rfl)
theorem dX5_foundNow_38 : decode cX5_foundNow 38 = .ok (.iadd, 1) := dk_96 (dk_at dksX5_foundNow_1 14 rfl rfl)
theorem dX5_foundNow_39 : decode cX5_foundNow 39 = .ok (.istore_n 2, 1) := dk_61 (dk_at dksX5_foundNow_1 15 rfl rfl)
theorem dX5_foundNow_40 : decode cX5_foundNow 40 = .ok (.iinc 3 1, 3) := dk_132 3 1 (dk_at dksX5_foundNow_1 16 rfl rfl)
theorem dX5_foundNow_43 : decode cX5_foundNow 43 = .ok (.goto (-39), 3) := dk_167 255 217 (dk_at dksX5_foundNow_1 19 rfl rfl)
theorem dX5_foundNow_46 : decode cX5_foundNow 46 = .ok (.iload_n 2, 1) := dk_28 (dk_at dksX5_foundNow_1 22 rfl rfl)
theorem dX5_foundNow_47 : decode cX5_foundNow 47 = .ok (.ireturn, 1) := dk_172 (dk_at dksX5_foundNow_1 23 rfl rfl)
abbrev mX5_foundNow : sd_Y := (yX5_foundNow, cX5_foundNow, 4, some (.int), none)
def fX5_foundNow_b35 (G : sd_G) (k4 : Nat × Int32 × Int32 × Int32 → sd_M Int32) (w0 : Nat) (w1 : Int32) (w3 : Int32) (y0 : Int32) (y1 : Int32) : sd_M Int32 :=
  sd_bnd (fX5_one G y0) fun r5 =>
  sd_bnd (sd_ret (y1 + r5)) fun x6 =>
  sd_bnd (sd_ret (w3 + 1)) fun x7 =>
  k4 (w0, w1, x6, x7)
set_option maxHeartbeats 4000000 in
theorem sX5_foundNow_b35 (l : Launch) (G : sd_G) (a0 : Nat) (a1 : Int32) (ρ : Int32) (h2 : sd_H) (cT : Nat × Nat) (k4 : Nat × Int32 × Int32 × Int32 → sd_M Int32) (Hk4 : ∀ (q : Nat × Int32 × Int32 × Int32) (h : sd_H) (c : Nat × Nat), k4 q h = some (ρ, c, h2) → sd_J mX5_foundNow ((l, G), (1, 20), [.ref a0, .int a1], (sd_oI ρ, h2), cT) 4 [(0, .ref q.1), (1, .int q.2.1), (2, .int q.2.2.1), (3, .int q.2.2.2)] [] h c) (w0 : Nat) (w1 : Int32) (w3 : Int32) (y0 : Int32) (y1 : Int32) (h : sd_H) (c : Nat × Nat) (hf : fX5_foundNow_b35 G k4 w0 w1 w3 y0 y1 h = some (ρ, c, h2)) : sd_J mX5_foundNow ((l, G), (1, 20), [.ref a0, .int a1], (sd_oI ρ, h2), cT) 35 [(0, .ref w0), (1, .int w1), (3, .int w3)] [.int y0, .int y1] h c := by
  unfold fX5_foundNow_b35 at hf
  refine sj_cI (rest := [.int y1]) (fun _ _ _ e => sj_runS (n := 1) (rest := [.int y1]) (sX5_one l G y0 h _ _ _ e) rfl rfl q3153 q3154 q127 q3155 (by decide +kernel) rfl ⟨Nat.le_of_ble_eq_true rfl, Nat.le_of_ble_eq_true rfl⟩ rfl (Nat.le_of_ble_eq_true rfl) dX5_foundNow_35) hf (fun r5 h c hf => ?_)
  refine sj_iadd dX5_foundNow_38 ?_
  refine sj_nameI hf (fun x6 hf => ?_)
  refine sj_istore_n [(2, .int x6), (0, .ref w0), (1, .int w1), (3, .int w3)] dX5_foundNow_39 (by decide) rfl ?_
  refine sj_iincN 3 (fun x7 => [(3, .int x7), (2, .int x6), (0, .ref w0), (1, .int w1)]) 1 hf dX5_foundNow_40 rfl (by decide) (by decide) (fun _ => rfl) (fun x7 hf => ?_)
  refine sj_goto 4 dX5_foundNow_43 (by decide) ?_
  exact sj_loc [2, 3, 1, 0] rfl (Hk4 (w0, w1, x6, x7) _ _ hf)
def fX5_foundNow_b4 (G : sd_G) (k4 : Nat × Int32 × Int32 × Int32 → sd_M Int32) (w0 : Nat) (w1 : Int32) (w2 : Int32) (w3 : Int32) : sd_M Int32 :=
  sd_bnd (sd_getR G 4 4 w0) fun v1 =>
  sd_bnd (sd_getI G 5 6 v1) fun v2 =>
  if v2 ≤ w3 then (
    sd_ret w2)
  else (
    sd_bnd (sd_getR G 4 15 w0) fun v3 =>
    sd_bnd (sd_aldI G 0 v3 ((173 : Int32) + w3)) fun v4 =>
    if v4 < w1 then (
      fX5_foundNow_b35 G k4 w0 w1 w3 0 w2)
    else (
      fX5_foundNow_b35 G k4 w0 w1 w3 1 w2))
set_option maxHeartbeats 4000000 in
theorem sX5_foundNow_b4 (l : Launch) (G : sd_G) (a0 : Nat) (a1 : Int32) (ρ : Int32) (h2 : sd_H) (cT : Nat × Nat) (k4 : Nat × Int32 × Int32 × Int32 → sd_M Int32) (Hk4 : ∀ (q : Nat × Int32 × Int32 × Int32) (h : sd_H) (c : Nat × Nat), k4 q h = some (ρ, c, h2) → sd_J mX5_foundNow ((l, G), (1, 20), [.ref a0, .int a1], (sd_oI ρ, h2), cT) 4 [(0, .ref q.1), (1, .int q.2.1), (2, .int q.2.2.1), (3, .int q.2.2.2)] [] h c) (w0 : Nat) (w1 : Int32) (w2 : Int32) (w3 : Int32) (h : sd_H) (c : Nat × Nat) (hf : fX5_foundNow_b4 G k4 w0 w1 w2 w3 h = some (ρ, c, h2)) : sd_J mX5_foundNow ((l, G), (1, 20), [.ref a0, .int a1], (sd_oI ρ, h2), cT) 4 [(0, .ref w0), (1, .int w1), (2, .int w2), (3, .int w3)] [] h c := by
  unfold fX5_foundNow_b4 at hf
  refine sj_iload_n 3 dX5_foundNow_4 rfl ?_
  refine sj_aload_n 0 dX5_foundNow_5 rfl ?_
  refine sj_getR fdX5_20_4 hf dX5_foundNow_6 (fun v1 hf => ?_)
  refine sj_getI fdX5_65_5 hf dX5_foundNow_9 (fun v2 hf => ?_)
  refine sj_icge 46 hf dX5_foundNow_12 (by decide) (fun g12 hf => ?_) (fun g12 hf => ?_)
  · refine sj_iload_n 2 dX5_foundNow_46 rfl ?_
    exact sj_iret (o := sd_oI) hf rfl rfl rfl dX5_foundNow_47
  · refine sj_iload_n 2 dX5_foundNow_15 rfl ?_
    refine sj_aload_n 0 dX5_foundNow_16 rfl ?_
    refine sj_getR fdX5_40_4 hf dX5_foundNow_17 (fun v3 hf => ?_)
    refine sj_sipush (v := 173) dX5_foundNow_20 (by decide) ?_
    refine sj_iload_n 3 dX5_foundNow_23 rfl ?_
    refine sj_iadd dX5_foundNow_24 ?_
    refine sj_iald hf dX5_foundNow_25 (fun v4 hf => ?_)
    refine sj_iload_n 1 dX5_foundNow_26 rfl ?_
    refine sj_iclt 34 hf dX5_foundNow_27 (by decide) (fun g27 hf => ?_) (fun g27 hf => ?_)
    · refine sj_iconst (v := 0) dX5_foundNow_34 (by decide) ?_
      exact sj_loc [0, 1, 3] rfl (sX5_foundNow_b35 l G a0 a1 ρ h2 cT k4 Hk4 w0 w1 w3 0 w2 _ _ hf)
    · refine sj_iconst (v := 1) dX5_foundNow_30 (by decide) ?_
      refine sj_goto 35 dX5_foundNow_31 (by decide) ?_
      exact sj_loc [0, 1, 3] rfl (sX5_foundNow_b35 l G a0 a1 ρ h2 cT k4 Hk4 w0 w1 w3 1 w2 _ _ hf)
theorem sX5_foundNow_b4_loop (l : Launch) (G : sd_G) (a0 : Nat) (a1 : Int32) (ρ : Int32) (h2 : sd_H) (cT : Nat × Nat) (n : Nat) : ∀ (q : Nat × Int32 × Int32 × Int32) (h : sd_H) (c : Nat × Nat), sd_loop (fun k s => fX5_foundNow_b4 G k s.1 s.2.1 s.2.2.1 s.2.2.2) n q h = some (ρ, c, h2) → sd_J mX5_foundNow ((l, G), (1, 20), [.ref a0, .int a1], (sd_oI ρ, h2), cT) 4 [(0, .ref q.1), (1, .int q.2.1), (2, .int q.2.2.1), (3, .int q.2.2.2)] [] h c := by
  induction n with
  | zero => intro q h c hf; cases hf
  | succ n ih => intro q h c hf; exact sX5_foundNow_b4 l G a0 a1 ρ h2 cT _ ih _ _ _ _ _ _ hf
def fX5_foundNow (G : sd_G) (a0 : Nat) (a1 : Int32) : sd_M Int32 :=
  sd_loop (fun k s => fX5_foundNow_b4 G k s.1 s.2.1 s.2.2.1 s.2.2.2) sd_FU (a0, a1, 0, 0)
set_option maxHeartbeats 4000000 in
theorem sX5_foundNow (l : Launch) (G : sd_G) (a0 : Nat) (a1 : Int32) (h : sd_H) (ρ : Int32) (cT : Nat × Nat) (h2 : sd_H) (hf : fX5_foundNow G a0 a1 h = some (ρ, cT, h2)) : sd_Met mX5_foundNow ((l, G), (1, 20), [.ref a0, .int a1], (sd_oI ρ, h2), cT) h := by
  refine sd_entry (plainFor_of_name rfl) rfl (Nat.le_of_ble_eq_true rfl) ?_
  show sd_J mX5_foundNow ((l, G), (1, 20), [.ref a0, .int a1], (sd_oI ρ, h2), cT) 0 [(0, .ref a0), (1, .int a1)] [] h cT
  unfold fX5_foundNow at hf
  refine sj_iconst (v := 0) dX5_foundNow_0 (by decide) ?_
  refine sj_istore_n [(2, .int 0), (0, .ref a0), (1, .int a1)] dX5_foundNow_1 (by decide) rfl ?_
  refine sj_iconst (v := 0) dX5_foundNow_2 (by decide) ?_
  refine sj_istore_n [(3, .int 0), (2, .int 0), (0, .ref a0), (1, .int a1)] dX5_foundNow_3 (by decide) rfl ?_
  exact sj_loc [2, 3, 1, 0] rfl (sX5_foundNow_b4_loop l G a0 a1 ρ h2 cT sd_FU (a0, a1, 0, 0) _ _ hf)
/-! SofaDigModel.found()I -/
abbrev cX5_found : ByteArray := prog_46_method_94_code
def yX5_found : MethodName := ⟨RX5, "found", "()I"⟩
def dkwX5_found_0 : List UInt8 := [42, 42, 4, 182, 0, 164, 182, 1, 145, 172]
abbrev dktX5_found_0 : List UInt8 := dkwX5_found_0 ++ []
theorem dksX5_found_0 : cX5_found.data.toList.drop 0 = dktX5_found_0 := by decide +kernel
theorem dX5_found_0 : decode cX5_found 0 = .ok (.aload_n 0, 1) := dk_42 (dk_at dksX5_found_0 0 rfl rfl)
theorem dX5_found_1 : decode cX5_found 1 = .ok (.aload_n 0, 1) := dk_42 (dk_at dksX5_found_0 1 rfl rfl)
theorem dX5_found_2 : decode cX5_found 2 = .ok (.iconst 1, 1) := dk_4 (dk_at dksX5_found_0 2 rfl rfl)
theorem dX5_found_3 : decode cX5_found 3 = .ok (.invokevirtual 164, 3) := dk_182 0 164 (dk_at dksX5_found_0 3 rfl rfl)
theorem dX5_found_6 : decode cX5_found 6 = .ok (.invokevirtual 401, 3) := dk_182 1 145 (dk_at dksX5_found_0 6 rfl rfl)
theorem dX5_found_9 : decode cX5_found 9 = .ok (.ireturn, 1) := dk_172 (dk_at dksX5_found_0 9 rfl rfl)
abbrev mX5_found : sd_Y := (yX5_found, cX5_found, 1, some (.int), none)
def fX5_found (G : sd_G) (a0 : Nat) : sd_M Int32 :=
  sd_bnd (sd_isC G 4 a0) fun _ =>
  sd_bnd (fX5_foundNow G a0 1) fun r1 =>
  sd_bnd (sd_isC G 4 a0) fun _ =>
  sd_bnd (fX5_ok G a0 r1) fun r2 =>
  sd_ret r2
set_option maxHeartbeats 4000000 in
theorem sX5_found (l : Launch) (G : sd_G) (a0 : Nat) (h : sd_H) (ρ : Int32) (cT : Nat × Nat) (h2 : sd_H) (hf : fX5_found G a0 h = some (ρ, cT, h2)) : sd_Met mX5_found ((l, G), (2, 43), [.ref a0], (sd_oI ρ, h2), cT) h := by
  refine sd_entry (plainFor_of_name rfl) rfl (Nat.le_of_ble_eq_true rfl) ?_
  show sd_J mX5_found ((l, G), (2, 43), [.ref a0], (sd_oI ρ, h2), cT) 0 [(0, .ref a0)] [] h cT
  unfold fX5_found at hf
  refine sj_aload_n 0 dX5_found_0 rfl ?_
  refine sj_aload_n 0 dX5_found_1 rfl ?_
  refine sj_iconst (v := 1) dX5_found_2 (by decide) ?_
  obtain ⟨fs3, he3, hf⟩ := sd_isC_some hf
  refine sj_cI (rest := [.ref a0]) (fun _ _ _ e => sj_runV (n := 1) (As := [.int 1]) (rest := [.ref a0]) (sX5_foundNow l G a0 1 h _ _ _ e) he3 rfl rfl rfl rfl q3149 q3151 qs83 q127 q3152 (by decide +kernel) rfl rfl ⟨Nat.le_of_ble_eq_true rfl, Nat.le_of_ble_eq_true rfl⟩ rfl (Nat.le_of_ble_eq_true rfl) dX5_found_3) hf (fun r1 h c hf => ?_)
  obtain ⟨fs6, he6, hf⟩ := sd_isC_some hf
  refine sj_cI (rest := []) (fun _ _ _ e => sj_runV (n := 1) (As := [.int r1]) (rest := []) (sX5_ok l G a0 r1 h _ _ _ e) he6 rfl rfl rfl rfl q3113 q3115 qs82 q127 q3116 (by decide +kernel) rfl rfl ⟨Nat.le_of_ble_eq_true rfl, Nat.le_of_ble_eq_true rfl⟩ rfl (Nat.le_of_ble_eq_true rfl) dX5_found_6) hf (fun r2 h c hf => ?_)
  exact sj_iret (o := sd_oI) hf rfl rfl rfl dX5_found_9
/-! SofaDigModel.sureFinds()I -/
abbrev cX5_sureFinds : ByteArray := prog_46_method_95_code
def yX5_sureFinds : MethodName := ⟨RX5, "sureFinds", "()I"⟩
def dkwX5_sureFinds_0 : List UInt8 := [42, 42, 5, 182, 0, 164, 182, 1, 145, 172]
abbrev dktX5_sureFinds_0 : List UInt8 := dkwX5_sureFinds_0 ++ []
theorem dksX5_sureFinds_0 : cX5_sureFinds.data.toList.drop 0 = dktX5_sureFinds_0 := by decide +kernel
theorem dX5_sureFinds_0 : decode cX5_sureFinds 0 = .ok (.aload_n 0, 1) := dk_42 (dk_at dksX5_sureFinds_0 0 rfl rfl)
theorem dX5_sureFinds_1 : decode cX5_sureFinds 1 = .ok (.aload_n 0, 1) := dk_42 (dk_at dksX5_sureFinds_0 1 rfl rfl)
theorem dX5_sureFinds_2 : decode cX5_sureFinds 2 = .ok (.iconst 2, 1) := dk_5 (dk_at dksX5_sureFinds_0 2 rfl rfl)
theorem dX5_sureFinds_3 : decode cX5_sureFinds 3 = .ok (.invokevirtual 164, 3) := dk_182 0 164 (dk_at dksX5_sureFinds_0 3 rfl rfl)
theorem dX5_sureFinds_6 : decode cX5_sureFinds 6 = .ok (.invokevirtual 401, 3) := dk_182 1 145 (dk_at dksX5_sureFinds_0 6 rfl rfl)
theorem dX5_sureFinds_9 : decode cX5_sureFinds 9 = .ok (.ireturn, 1) := dk_172 (dk_at dksX5_sureFinds_0 9 rfl rfl)
abbrev mX5_sureFinds : sd_Y := (yX5_sureFinds, cX5_sureFinds, 1, some (.int), none)
def fX5_sureFinds (G : sd_G) (a0 : Nat) : sd_M Int32 :=
  sd_bnd (sd_isC G 4 a0) fun _ =>
  sd_bnd (fX5_foundNow G a0 2) fun r1 =>
  sd_bnd (sd_isC G 4 a0) fun _ =>
  sd_bnd (fX5_ok G a0 r1) fun r2 =>
  sd_ret r2
set_option maxHeartbeats 4000000 in
theorem sX5_sureFinds (l : Launch) (G : sd_G) (a0 : Nat) (h : sd_H) (ρ : Int32) (cT : Nat × Nat) (h2 : sd_H) (hf : fX5_sureFinds G a0 h = some (ρ, cT, h2)) : sd_Met mX5_sureFinds ((l, G), (2, 43), [.ref a0], (sd_oI ρ, h2), cT) h := by
  refine sd_entry (plainFor_of_name rfl) rfl (Nat.le_of_ble_eq_true rfl) ?_
  show sd_J mX5_sureFinds ((l, G), (2, 43), [.ref a0], (sd_oI ρ, h2), cT) 0 [(0, .ref a0)] [] h cT
  unfold fX5_sureFinds at hf
  refine sj_aload_n 0 dX5_sureFinds_0 rfl ?_
  refine sj_aload_n 0 dX5_sureFinds_1 rfl ?_
  refine sj_iconst (v := 2) dX5_sureFinds_2 (by decide) ?_
  obtain ⟨fs3, he3, hf⟩ := sd_isC_some hf
  refine sj_cI (rest := [.ref a0]) (fun _ _ _ e => sj_runV (n := 1) (As := [.int 2]) (rest := [.ref a0]) (sX5_foundNow l G a0 2 h _ _ _ e) he3 rfl rfl rfl rfl q3149 q3151 qs83 q127 q3152 (by decide +kernel) rfl rfl ⟨Nat.le_of_ble_eq_true rfl, Nat.le_of_ble_eq_true rfl⟩ rfl (Nat.le_of_ble_eq_true rfl) dX5_sureFinds_3) hf (fun r1 h c hf => ?_)
  obtain ⟨fs6, he6, hf⟩ := sd_isC_some hf
  refine sj_cI (rest := []) (fun _ _ _ e => sj_runV (n := 1) (As := [.int r1]) (rest := []) (sX5_ok l G a0 r1 h _ _ _ e) he6 rfl rfl rfl rfl q3113 q3115 qs82 q127 q3116 (by decide +kernel) rfl rfl ⟨Nat.le_of_ble_eq_true rfl, Nat.le_of_ble_eq_true rfl⟩ rfl (Nat.le_of_ble_eq_true rfl) dX5_sureFinds_6) hf (fun r2 h c hf => ?_)
  exact sj_iret (o := sd_oI) hf rfl rfl rfl dX5_sureFinds_9
/-! SofaDigModel.props()I -/
abbrev cX5_props : ByteArray := prog_46_method_96_code
def yX5_props : MethodName := ⟨RX5, "props", "()I"⟩
def dkwX5_props_0 : List UInt8 := [42, 42, 180, 0, 40, 7, 46, 184, 0, 143, 182, 1, 145, 172]
abbrev dktX5_props_0 : List UInt8 := dkwX5_props_0 ++ []
theorem dksX5_props_0 : cX5_props.data.toList.drop 0 = dktX5_props_0 := by decide +kernel
theorem dX5_props_0 : decode cX5_props 0 = .ok (.aload_n 0, 1) := dk_42 (dk_at dksX5_props_0 0 rfl rfl)
theorem dX5_props_1 : decode cX5_props 1 = .ok (.aload_n 0, 1) := dk_42 (dk_at dksX5_props_0 1 rfl rfl)
theorem dX5_props_2 : decode cX5_props 2 = .ok (.getfield 40, 3) := dk_180 0 40 (dk_at dksX5_props_0 2 rfl rfl)
theorem dX5_props_5 : decode cX5_props 5 = .ok (.iconst 4, 1) := dk_7 (dk_at dksX5_props_0 5 rfl rfl)
theorem dX5_props_6 : decode cX5_props 6 = .ok (.iaload, 1) := dk_46 (dk_at dksX5_props_0 6 rfl rfl)
theorem dX5_props_7 : decode cX5_props 7 = .ok (.invokestatic 143, 3) := dk_184 0 143 (dk_at dksX5_props_0 7 rfl rfl)
theorem dX5_props_10 : decode cX5_props 10 = .ok (.invokevirtual 401, 3) := dk_182 1 145 (dk_at dksX5_props_0 10 rfl rfl)
theorem dX5_props_13 : decode cX5_props 13 = .ok (.ireturn, 1) := dk_172 (dk_at dksX5_props_0 13 rfl rfl)
abbrev mX5_props : sd_Y := (yX5_props, cX5_props, 1, some (.int), none)
def fX5_props (G : sd_G) (a0 : Nat) : sd_M Int32 :=
  sd_bnd (sd_getR G 4 15 a0) fun v1 =>
  sd_bnd (sd_aldI G 0 v1 4) fun v2 =>
  sd_bnd (fJ19_bitCount G v2) fun r3 =>
  sd_bnd (sd_isC G 4 a0) fun _ =>
  sd_bnd (fX5_ok G a0 r3) fun r4 =>
  sd_ret r4
set_option maxHeartbeats 4000000 in
theorem sX5_props (l : Launch) (G : sd_G) (a0 : Nat) (h : sd_H) (ρ : Int32) (cT : Nat × Nat) (h2 : sd_H) (hf : fX5_props G a0 h = some (ρ, cT, h2)) : sd_Met mX5_props ((l, G), (1, 21), [.ref a0], (sd_oI ρ, h2), cT) h := by
  refine sd_entry (plainFor_of_name rfl) rfl (Nat.le_of_ble_eq_true rfl) ?_
  show sd_J mX5_props ((l, G), (1, 21), [.ref a0], (sd_oI ρ, h2), cT) 0 [(0, .ref a0)] [] h cT
  unfold fX5_props at hf
  refine sj_aload_n 0 dX5_props_0 rfl ?_
  refine sj_aload_n 0 dX5_props_1 rfl ?_
  refine sj_getR fdX5_40_4 hf dX5_props_2 (fun v1 hf => ?_)
  refine sj_iconst (v := 4) dX5_props_5 (by decide) ?_
  refine sj_iald hf dX5_props_6 (fun v2 hf => ?_)
  refine sj_cI (rest := [.ref a0]) (fun _ _ _ e => sj_runS (n := 1) (rest := [.ref a0]) (sJ19_bitCount l G v2 h _ _ _ e) rfl rfl q3164 q3165 q146 q3166 (by decide +kernel) rfl ⟨Nat.le_of_ble_eq_true rfl, Nat.le_of_ble_eq_true rfl⟩ rfl (Nat.le_of_ble_eq_true rfl) dX5_props_7) hf (fun r3 h c hf => ?_)
  obtain ⟨fs10, he10, hf⟩ := sd_isC_some hf
  refine sj_cI (rest := []) (fun _ _ _ e => sj_runV (n := 1) (As := [.int r3]) (rest := []) (sX5_ok l G a0 r3 h _ _ _ e) he10 rfl rfl rfl rfl q3113 q3115 qs82 q127 q3116 (by decide +kernel) rfl rfl ⟨Nat.le_of_ble_eq_true rfl, Nat.le_of_ble_eq_true rfl⟩ rfl (Nat.le_of_ble_eq_true rfl) dX5_props_10) hf (fun r4 h c hf => ?_)
  exact sj_iret (o := sd_oI) hf rfl rfl rfl dX5_props_13
/-! SofaDigModel.isSeat(I)Z -/
abbrev cX5_isSeat : ByteArray := prog_46_method_9_code
def yX5_isSeat : MethodName := ⟨RX5, "isSeat", "(I)Z"⟩
def dkwX5_isSeat_0 : List UInt8 := [27, 3, 42, 180, 0, 20, 180, 0, 52, 4, 100, 184, 0, 61, 172]
abbrev dktX5_isSeat_0 : List UInt8 := dkwX5_isSeat_0 ++ []
theorem dksX5_isSeat_0 : cX5_isSeat.data.toList.drop 0 = dktX5_isSeat_0 := by decide +kernel
theorem dX5_isSeat_0 : decode cX5_isSeat 0 = .ok (.iload_n 1, 1) := dk_27 (dk_at dksX5_isSeat_0 0 rfl rfl)
theorem dX5_isSeat_1 : decode cX5_isSeat 1 = .ok (.iconst 0, 1) := dk_3 (dk_at dksX5_isSeat_0 1 rfl rfl)
theorem dX5_isSeat_2 : decode cX5_isSeat 2 = .ok (.aload_n 0, 1) := dk_42 (dk_at dksX5_isSeat_0 2 rfl rfl)
theorem dX5_isSeat_3 : decode cX5_isSeat 3 = .ok (.getfield 20, 3) := dk_180 0 20 (dk_at dksX5_isSeat_0 3 rfl rfl)
theorem dX5_isSeat_6 : decode cX5_isSeat 6 = .ok (.getfield 52, 3) := dk_180 0 52 (dk_at dksX5_isSeat_0 6 rfl rfl)
theorem dX5_isSeat_9 : decode cX5_isSeat 9 = .ok (.iconst 1, 1) := dk_4 (dk_at dksX5_isSeat_0 9 rfl rfl)
theorem dX5_isSeat_10 : decode cX5_isSeat 10 = .ok (.isub, 1) := dk_100 (dk_at dksX5_isSeat_0 10 rfl rfl)
theorem dX5_isSeat_11 : decode cX5_isSeat 11 = .ok (.invokestatic 61, 3) := dk_184 0 61 (dk_at dksX5_isSeat_0 11 rfl rfl)
theorem dX5_isSeat_14 : decode cX5_isSeat 14 = .ok (.ireturn, 1) := dk_172 (dk_at dksX5_isSeat_0 14 rfl rfl)
abbrev mX5_isSeat : sd_Y := (yX5_isSeat, cX5_isSeat, 2, some (.boolean), none)
def fX5_isSeat (G : sd_G) (a0 : Nat) (a1 : Int32) : sd_M Int32 :=
  sd_bnd (sd_getR G 4 4 a0) fun v1 =>
  sd_bnd (sd_getI G 5 0 v1) fun v2 =>
  sd_bnd (fX5_isIn G a1 0 (v2 - 1)) fun r3 =>
  sd_retN .boolean r3
set_option maxHeartbeats 4000000 in
theorem sX5_isSeat (l : Launch) (G : sd_G) (a0 : Nat) (a1 : Int32) (h : sd_H) (ρ : Int32) (cT : Nat × Nat) (h2 : sd_H) (hf : fX5_isSeat G a0 a1 h = some (ρ, cT, h2)) : sd_Met mX5_isSeat ((l, G), (1, 22), [.ref a0, .int a1], (sd_oI ρ, h2), cT) h := by
  refine sd_entry (plainFor_of_name rfl) rfl (Nat.le_of_ble_eq_true rfl) ?_
  show sd_J mX5_isSeat ((l, G), (1, 22), [.ref a0, .int a1], (sd_oI ρ, h2), cT) 0 [(0, .ref a0), (1, .int a1)] [] h cT
  unfold fX5_isSeat at hf
  refine sj_iload_n 1 dX5_isSeat_0 rfl ?_
  refine sj_iconst (v := 0) dX5_isSeat_1 (by decide) ?_
  refine sj_aload_n 0 dX5_isSeat_2 rfl ?_
  refine sj_getR fdX5_20_4 hf dX5_isSeat_3 (fun v1 hf => ?_)
  refine sj_getI fdX5_52_5 hf dX5_isSeat_6 (fun v2 hf => ?_)
  refine sj_iconst (v := 1) dX5_isSeat_9 (by decide) ?_
  refine sj_isub dX5_isSeat_10 ?_
  refine sj_cI (rest := []) (fun _ _ _ e => sj_runS (n := 3) (rest := []) (sX5_isIn l G a1 0 (v2 - 1) h _ _ _ e) rfl rfl q2921 q2922 q127 q2923 (by decide +kernel) rfl ⟨Nat.le_of_ble_eq_true rfl, Nat.le_of_ble_eq_true rfl⟩ rfl (Nat.le_of_ble_eq_true rfl) dX5_isSeat_11) hf (fun r3 h c hf => ?_)
  exact sj_zret hf rfl rfl dX5_isSeat_14
/-! SofaDigModel.tall(I)I -/
abbrev cX5_tall : ByteArray := prog_46_method_14_code
def yX5_tall : MethodName := ⟨RX5, "tall", "(I)I"⟩
def dkwX5_tall_0 : List UInt8 := [42, 180, 0, 40, 8, 27, 96, 46, 172]
abbrev dktX5_tall_0 : List UInt8 := dkwX5_tall_0 ++ []
theorem dksX5_tall_0 : cX5_tall.data.toList.drop 0 = dktX5_tall_0 := by decide +kernel
theorem dX5_tall_0 : decode cX5_tall 0 = .ok (.aload_n 0, 1) := dk_42 (dk_at dksX5_tall_0 0 rfl rfl)
theorem dX5_tall_1 : decode cX5_tall 1 = .ok (.getfield 40, 3) := dk_180 0 40 (dk_at dksX5_tall_0 1 rfl rfl)
theorem dX5_tall_4 : decode cX5_tall 4 = .ok (.iconst 5, 1) := dk_8 (dk_at dksX5_tall_0 4 rfl rfl)
theorem dX5_tall_5 : decode cX5_tall 5 = .ok (.iload_n 1, 1) := dk_27 (dk_at dksX5_tall_0 5 rfl rfl)
theorem dX5_tall_6 : decode cX5_tall 6 = .ok (.iadd, 1) := dk_96 (dk_at dksX5_tall_0 6 rfl rfl)
theorem dX5_tall_7 : decode cX5_tall 7 = .ok (.iaload, 1) := dk_46 (dk_at dksX5_tall_0 7 rfl rfl)
theorem dX5_tall_8 : decode cX5_tall 8 = .ok (.ireturn, 1) := dk_172 (dk_at dksX5_tall_0 8 rfl rfl)
abbrev mX5_tall : sd_Y := (yX5_tall, cX5_tall, 2, some (.int), none)
def fX5_tall (G : sd_G) (a0 : Nat) (a1 : Int32) : sd_M Int32 :=
  sd_bnd (sd_getR G 4 15 a0) fun v1 =>
  sd_bnd (sd_aldI G 0 v1 ((5 : Int32) + a1)) fun v2 =>
  sd_ret v2
set_option maxHeartbeats 4000000 in
theorem sX5_tall (l : Launch) (G : sd_G) (a0 : Nat) (a1 : Int32) (h : sd_H) (ρ : Int32) (cT : Nat × Nat) (h2 : sd_H) (hf : fX5_tall G a0 a1 h = some (ρ, cT, h2)) : sd_Met mX5_tall ((l, G), (0, 0), [.ref a0, .int a1], (sd_oI ρ, h2), cT) h := by
  refine sd_entry (plainFor_of_name rfl) rfl (Nat.le_of_ble_eq_true rfl) ?_
  show sd_J mX5_tall ((l, G), (0, 0), [.ref a0, .int a1], (sd_oI ρ, h2), cT) 0 [(0, .ref a0), (1, .int a1)] [] h cT
  unfold fX5_tall at hf
  refine sj_aload_n 0 dX5_tall_0 rfl ?_
  refine sj_getR fdX5_40_4 hf dX5_tall_1 (fun v1 hf => ?_)
  refine sj_iconst (v := 5) dX5_tall_4 (by decide) ?_
  refine sj_iload_n 1 dX5_tall_5 rfl ?_
  refine sj_iadd dX5_tall_6 ?_
  refine sj_iald hf dX5_tall_7 (fun v2 hf => ?_)
  exact sj_iret (o := sd_oI) hf rfl rfl rfl dX5_tall_8
/-! SofaDigModel.heightOf(I)I -/
abbrev cX5_heightOf : ByteArray := prog_46_method_97_code
def yX5_heightOf : MethodName := ⟨RX5, "heightOf", "(I)I"⟩
def dkwX5_heightOf_1 : List UInt8 := [182, 1, 139, 172]
abbrev dktX5_heightOf_1 : List UInt8 := dkwX5_heightOf_1 ++ []
def dkwX5_heightOf_0 : List UInt8 := [42, 3, 181, 0, 58, 42, 27, 182, 0, 78, 153, 0, 11, 42, 27, 182, 0, 74, 167, 0, 8, 42, 4]
abbrev dktX5_heightOf_0 : List UInt8 := dkwX5_heightOf_0 ++ dktX5_heightOf_1
theorem dksX5_heightOf_0 : cX5_heightOf.data.toList.drop 0 = dktX5_heightOf_0 := by decide +kernel
theorem dksX5_heightOf_1 : cX5_heightOf.data.toList.drop 23 = dktX5_heightOf_1 := dk_seg dksX5_heightOf_0 23 rfl rfl
theorem dX5_heightOf_0 : decode cX5_heightOf 0 = .ok (.aload_n 0, 1) := dk_42 (dk_at dksX5_heightOf_0 0 rfl rfl)
theorem dX5_heightOf_1 : decode cX5_heightOf 1 = .ok (.iconst 0, 1) := dk_3 (dk_at dksX5_heightOf_0 1 rfl rfl)
theorem dX5_heightOf_2 : decode cX5_heightOf 2 = .ok (.putfield 58, 3) := dk_181 0 58 (dk_at dksX5_heightOf_0 2 rfl rfl)
theorem dX5_heightOf_5 : decode cX5_heightOf 5 = .ok (.aload_n 0, 1) := dk_42 (dk_at dksX5_heightOf_0 5 rfl rfl)
theorem dX5_heightOf_6 : decode cX5_heightOf 6 = .ok (.iload_n 1, 1) := dk_27 (dk_at dksX5_heightOf_0 6 rfl rfl)
theorem dX5_heightOf_7 : decode cX5_heightOf 7 = .ok (.invokevirtual 78, 3) := dk_182 0 78 (dk_at dksX5_heightOf_0 7 rfl rfl)
theorem dX5_heightOf_10 : decode cX5_heightOf 10 = .ok (.ifCond .eq 11, 3) := dk_153 0 11 (dk_at dksX5_heightOf_0 10 rfl rfl)
theorem dX5_heightOf_13 : decode cX5_heightOf 13 = .ok (.aload_n 0, 1) := dk_42 (dk_at dksX5_heightOf_0 13 rfl rfl)
theorem dX5_heightOf_14 : decode cX5_heightOf 14 = .ok (.iload_n 1, 1) := dk_27 (dk_at dksX5_heightOf_0 14 rfl rfl)
theorem dX5_heightOf_15 : decode cX5_heightOf 15 = .ok (.invokevirtual 74, 3) := dk_182 0 74 (dk_at dksX5_heightOf_0 15 rfl rfl)
theorem dX5_heightOf_18 : decode cX5_heightOf 18 = .ok (.goto 8, 3) := dk_167 0 8 (dk_at dksX5_heightOf_0 18 rfl rfl)
theorem dX5_heightOf_21 : decode cX5_heightOf 21 = .ok (.aload_n 0, 1) := dk_42 (dk_at dksX5_heightOf_0 21 rfl rfl)
theorem dX5_heightOf_22 : decode cX5_heightOf 22 = .ok (.iconst 1, 1) := dk_4 (dk_at dksX5_heightOf_0 22 rfl rfl)
theorem dX5_heightOf_23 : decode cX5_heightOf 23 = .ok (.invokevirtual 395, 3) := dk_182 1 139 (dk_at dksX5_heightOf_1 0 rfl rfl)
theorem dX5_heightOf_26 : decode cX5_heightOf 26 = .ok (.ireturn, 1) := dk_172 (dk_at dksX5_heightOf_1 3 rfl rfl)
abbrev mX5_heightOf : sd_Y := (yX5_heightOf, cX5_heightOf, 2, some (.int), none)
def fX5_heightOf (G : sd_G) (a0 : Nat) (a1 : Int32) : sd_M Int32 :=
  sd_bnd (sd_put 4 0 .int a0 (.int 0)) fun _ =>
  sd_bnd (sd_isC G 4 a0) fun _ =>
  sd_bnd (fX5_isSeat G a0 a1) fun r1 =>
  if r1 = 0 then (
    sd_bnd (sd_isC G 4 a0) fun _ =>
    sd_bnd (fX5_no G a0 1) fun r2 =>
    sd_ret r2)
  else (
    sd_bnd (sd_isC G 4 a0) fun _ =>
    sd_bnd (fX5_tall G a0 a1) fun r3 =>
    sd_ret r3)
set_option maxHeartbeats 4000000 in
theorem sX5_heightOf (l : Launch) (G : sd_G) (a0 : Nat) (a1 : Int32) (h : sd_H) (ρ : Int32) (cT : Nat × Nat) (h2 : sd_H) (hf : fX5_heightOf G a0 a1 h = some (ρ, cT, h2)) : sd_Met mX5_heightOf ((l, G), (2, 43), [.ref a0, .int a1], (sd_oI ρ, h2), cT) h := by
  refine sd_entry (plainFor_of_name rfl) rfl (Nat.le_of_ble_eq_true rfl) ?_
  show sd_J mX5_heightOf ((l, G), (2, 43), [.ref a0, .int a1], (sd_oI ρ, h2), cT) 0 [(0, .ref a0), (1, .int a1)] [] h cT
  unfold fX5_heightOf at hf
  refine sj_aload_n 0 dX5_heightOf_0 rfl ?_
  refine sj_iconst (v := 0) dX5_heightOf_1 (by decide) ?_
  refine sj_put (fpX5_58_4 _ _) hf dX5_heightOf_2 (fun h hf => ?_)
  refine sj_aload_n 0 dX5_heightOf_5 rfl ?_
  refine sj_iload_n 1 dX5_heightOf_6 rfl ?_
  obtain ⟨fs7, he7, hf⟩ := sd_isC_some hf
  refine sj_cI (rest := []) (fun _ _ _ e => sj_runV (n := 1) (As := [.int a1]) (rest := []) (sX5_isSeat l G a0 a1 h _ _ _ e) he7 rfl rfl rfl rfl q3174 q3176 qs84 q127 q3177 (by decide +kernel) rfl rfl ⟨Nat.le_of_ble_eq_true rfl, Nat.le_of_ble_eq_true rfl⟩ rfl (Nat.le_of_ble_eq_true rfl) dX5_heightOf_7) hf (fun r1 h c hf => ?_)
  refine sj_ifeq 21 hf dX5_heightOf_10 (by decide) (fun g10 hf => ?_) (fun g10 hf => ?_)
  · refine sj_aload_n 0 dX5_heightOf_21 rfl ?_
    refine sj_iconst (v := 1) dX5_heightOf_22 (by decide) ?_
    obtain ⟨fs23, he23, hf⟩ := sd_isC_some hf
    refine sj_cI (rest := []) (fun _ _ _ e => sj_runV (n := 1) (As := [.int 1]) (rest := []) (sX5_no l G a0 1 h _ _ _ e) he23 rfl rfl rfl rfl q2913 q2915 qs42 q127 q2916 (by decide +kernel) rfl rfl ⟨Nat.le_of_ble_eq_true rfl, Nat.le_of_ble_eq_true rfl⟩ rfl (Nat.le_of_ble_eq_true rfl) dX5_heightOf_23) hf (fun r2 h c hf => ?_)
    exact sj_iret (o := sd_oI) hf rfl rfl rfl dX5_heightOf_26
  · refine sj_aload_n 0 dX5_heightOf_13 rfl ?_
    refine sj_iload_n 1 dX5_heightOf_14 rfl ?_
    obtain ⟨fs15, he15, hf⟩ := sd_isC_some hf
    refine sj_cI (rest := []) (fun _ _ _ e => sj_runV (n := 1) (As := [.int a1]) (rest := []) (sX5_tall l G a0 a1 h _ _ _ e) he15 rfl rfl rfl rfl q3178 q3180 qs85 q127 q3181 (by decide +kernel) rfl rfl ⟨Nat.le_of_ble_eq_true rfl, Nat.le_of_ble_eq_true rfl⟩ rfl (Nat.le_of_ble_eq_true rfl) dX5_heightOf_15) hf (fun r3 h c hf => ?_)
    refine sj_goto 26 dX5_heightOf_18 (by decide) ?_
    exact sj_iret (o := sd_oI) hf rfl rfl rfl dX5_heightOf_26
/-! SofaDigModel.hasProp(I)Z -/
abbrev cX5_hasProp : ByteArray := prog_46_method_16_code
def yX5_hasProp : MethodName := ⟨RX5, "hasProp", "(I)Z"⟩
def dkwX5_hasProp_0 : List UInt8 := [42, 180, 0, 40, 7, 46, 27, 122, 4, 126, 4, 160, 0, 7, 4, 167, 0, 4, 3, 172]
abbrev dktX5_hasProp_0 : List UInt8 := dkwX5_hasProp_0 ++ []
theorem dksX5_hasProp_0 : cX5_hasProp.data.toList.drop 0 = dktX5_hasProp_0 := by decide +kernel
theorem dX5_hasProp_0 : decode cX5_hasProp 0 = .ok (.aload_n 0, 1) := dk_42 (dk_at dksX5_hasProp_0 0 rfl rfl)
theorem dX5_hasProp_1 : decode cX5_hasProp 1 = .ok (.getfield 40, 3) := dk_180 0 40 (dk_at dksX5_hasProp_0 1 rfl rfl)
theorem dX5_hasProp_4 : decode cX5_hasProp 4 = .ok (.iconst 4, 1) := dk_7 (dk_at dksX5_hasProp_0 4 rfl rfl)
theorem dX5_hasProp_5 : decode cX5_hasProp 5 = .ok (.iaload, 1) := dk_46 (dk_at dksX5_hasProp_0 5 rfl rfl)
theorem dX5_hasProp_6 : decode cX5_hasProp 6 = .ok (.iload_n 1, 1) := dk_27 (dk_at dksX5_hasProp_0 6 rfl rfl)
theorem dX5_hasProp_7 : decode cX5_hasProp 7 = .ok (.ishr, 1) := dk_122 (dk_at dksX5_hasProp_0 7 rfl rfl)
theorem dX5_hasProp_8 : decode cX5_hasProp 8 = .ok (.iconst 1, 1) := dk_4 (dk_at dksX5_hasProp_0 8 rfl rfl)
theorem dX5_hasProp_9 : decode cX5_hasProp 9 = .ok (.iand, 1) := dk_126 (dk_at dksX5_hasProp_0 9 rfl rfl)
theorem dX5_hasProp_10 : decode cX5_hasProp 10 = .ok (.iconst 1, 1) := dk_4 (dk_at dksX5_hasProp_0 10 rfl rfl)
theorem dX5_hasProp_11 : decode cX5_hasProp 11 = .ok (.if_icmp .ne 7, 3) := dk_160 0 7 (dk_at dksX5_hasProp_0 11 rfl rfl)
theorem dX5_hasProp_14 : decode cX5_hasProp 14 = .ok (.iconst 1, 1) := dk_4 (dk_at dksX5_hasProp_0 14 rfl rfl)
theorem dX5_hasProp_15 : decode cX5_hasProp 15 = .ok (.goto 4, 3) := dk_167 0 4 (dk_at dksX5_hasProp_0 15 rfl rfl)
theorem dX5_hasProp_18 : decode cX5_hasProp 18 = .ok (.iconst 0, 1) := dk_3 (dk_at dksX5_hasProp_0 18 rfl rfl)
theorem dX5_hasProp_19 : decode cX5_hasProp 19 = .ok (.ireturn, 1) := dk_172 (dk_at dksX5_hasProp_0 19 rfl rfl)
abbrev mX5_hasProp : sd_Y := (yX5_hasProp, cX5_hasProp, 2, some (.boolean), none)
def fX5_hasProp (G : sd_G) (a0 : Nat) (a1 : Int32) : sd_M Int32 :=
  sd_bnd (sd_getR G 4 15 a0) fun v1 =>
  sd_bnd (sd_aldI G 0 v1 4) fun v2 =>
  if ((v2 >>> (a1 &&& 31)) &&& 1) = 1 then (
    sd_ret 1)
  else (
    sd_ret 0)
set_option maxHeartbeats 4000000 in
theorem sX5_hasProp (l : Launch) (G : sd_G) (a0 : Nat) (a1 : Int32) (h : sd_H) (ρ : Int32) (cT : Nat × Nat) (h2 : sd_H) (hf : fX5_hasProp G a0 a1 h = some (ρ, cT, h2)) : sd_Met mX5_hasProp ((l, G), (0, 0), [.ref a0, .int a1], (sd_oI ρ, h2), cT) h := by
  refine sd_entry (plainFor_of_name rfl) rfl (Nat.le_of_ble_eq_true rfl) ?_
  show sd_J mX5_hasProp ((l, G), (0, 0), [.ref a0, .int a1], (sd_oI ρ, h2), cT) 0 [(0, .ref a0), (1, .int a1)] [] h cT
  unfold fX5_hasProp at hf
  refine sj_aload_n 0 dX5_hasProp_0 rfl ?_
  refine sj_getR fdX5_40_4 hf dX5_hasProp_1 (fun v1 hf => ?_)
  refine sj_iconst (v := 4) dX5_hasProp_4 (by decide) ?_
  refine sj_iald hf dX5_hasProp_5 (fun v2 hf => ?_)
  refine sj_iload_n 1 dX5_hasProp_6 rfl ?_
  refine sj_ishr dX5_hasProp_7 ?_
  refine sj_iconst (v := 1) dX5_hasProp_8 (by decide) ?_
  refine sj_iand dX5_hasProp_9 ?_
  refine sj_iconst (v := 1) dX5_hasProp_10 (by decide) ?_
  refine sj_icne 18 hf dX5_hasProp_11 (by decide) (fun g11 hf => ?_) (fun g11 hf => ?_)
  · refine sj_iconst (v := 0) dX5_hasProp_18 (by decide) ?_
    exact sj_zretC (o := sd_oI) (ty := .boolean) rfl hf rfl rfl rfl dX5_hasProp_19
  · refine sj_iconst (v := 1) dX5_hasProp_14 (by decide) ?_
    refine sj_goto 19 dX5_hasProp_15 (by decide) ?_
    exact sj_zretC (o := sd_oI) (ty := .boolean) rfl hf rfl rfl rfl dX5_hasProp_19
/-! SofaDigModel.isPropped(I)Z -/
abbrev cX5_isPropped : ByteArray := prog_46_method_98_code
def yX5_isPropped : MethodName := ⟨RX5, "isPropped", "(I)Z"⟩
def dkwX5_isPropped_1 : List UInt8 := [182, 1, 148, 172]
abbrev dktX5_isPropped_1 : List UInt8 := dkwX5_isPropped_1 ++ []
def dkwX5_isPropped_0 : List UInt8 := [42, 3, 181, 0, 58, 42, 27, 182, 0, 78, 153, 0, 11, 42, 27, 182, 0, 82, 167, 0, 8, 42, 4]
abbrev dktX5_isPropped_0 : List UInt8 := dkwX5_isPropped_0 ++ dktX5_isPropped_1
theorem dksX5_isPropped_0 : cX5_isPropped.data.toList.drop 0 = dktX5_isPropped_0 := by decide +kernel
theorem dksX5_isPropped_1 : cX5_isPropped.data.toList.drop 23 = dktX5_isPropped_1 := dk_seg dksX5_isPropped_0 23 rfl rfl
theorem dX5_isPropped_0 : decode cX5_isPropped 0 = .ok (.aload_n 0, 1) := dk_42 (dk_at dksX5_isPropped_0 0 rfl rfl)
theorem dX5_isPropped_1 : decode cX5_isPropped 1 = .ok (.iconst 0, 1) := dk_3 (dk_at dksX5_isPropped_0 1 rfl rfl)
theorem dX5_isPropped_2 : decode cX5_isPropped 2 = .ok (.putfield 58, 3) := dk_181 0 58 (dk_at dksX5_isPropped_0 2 rfl rfl)
theorem dX5_isPropped_5 : decode cX5_isPropped 5 = .ok (.aload_n 0, 1) := dk_42 (dk_at dksX5_isPropped_0 5 rfl rfl)
theorem dX5_isPropped_6 : decode cX5_isPropped 6 = .ok (.iload_n 1, 1) := dk_27 (dk_at dksX5_isPropped_0 6 rfl rfl)
theorem dX5_isPropped_7 : decode cX5_isPropped 7 = .ok (.invokevirtual 78, 3) := dk_182 0 78 (dk_at dksX5_isPropped_0 7 rfl rfl)
theorem dX5_isPropped_10 : decode cX5_isPropped 10 = .ok (.ifCond .eq 11, 3) := dk_153 0 11 (dk_at dksX5_isPropped_0 10 rfl rfl)
theorem dX5_isPropped_13 : decode cX5_isPropped 13 = .ok (.aload_n 0, 1) := dk_42 (dk_at dksX5_isPropped_0 13 rfl rfl)
theorem dX5_isPropped_14 : decode cX5_isPropped 14 = .ok (.iload_n 1, 1) := dk_27 (dk_at dksX5_isPropped_0 14 rfl rfl)
theorem dX5_isPropped_15 : decode cX5_isPropped 15 = .ok (.invokevirtual 82, 3) := dk_182 0 82 (dk_at dksX5_isPropped_0 15 rfl rfl)
theorem dX5_isPropped_18 : decode cX5_isPropped 18 = .ok (.goto 8, 3) := dk_167 0 8 (dk_at dksX5_isPropped_0 18 rfl rfl)
theorem dX5_isPropped_21 : decode cX5_isPropped 21 = .ok (.aload_n 0, 1) := dk_42 (dk_at dksX5_isPropped_0 21 rfl rfl)
theorem dX5_isPropped_22 : decode cX5_isPropped 22 = .ok (.iconst 1, 1) := dk_4 (dk_at dksX5_isPropped_0 22 rfl rfl)
theorem dX5_isPropped_23 : decode cX5_isPropped 23 = .ok (.invokevirtual 404, 3) := dk_182 1 148 (dk_at dksX5_isPropped_1 0 rfl rfl)
theorem dX5_isPropped_26 : decode cX5_isPropped 26 = .ok (.ireturn, 1) := dk_172 (dk_at dksX5_isPropped_1 3 rfl rfl)
abbrev mX5_isPropped : sd_Y := (yX5_isPropped, cX5_isPropped, 2, some (.boolean), none)
def fX5_isPropped (G : sd_G) (a0 : Nat) (a1 : Int32) : sd_M Int32 :=
  sd_bnd (sd_put 4 0 .int a0 (.int 0)) fun _ =>
  sd_bnd (sd_isC G 4 a0) fun _ =>
  sd_bnd (fX5_isSeat G a0 a1) fun r1 =>
  if r1 = 0 then (
    sd_bnd (sd_isC G 4 a0) fun _ =>
    sd_bnd (fX5_isNot G a0 1) fun r2 =>
    sd_retN .boolean r2)
  else (
    sd_bnd (sd_isC G 4 a0) fun _ =>
    sd_bnd (fX5_hasProp G a0 a1) fun r3 =>
    sd_retN .boolean r3)
set_option maxHeartbeats 4000000 in
theorem sX5_isPropped (l : Launch) (G : sd_G) (a0 : Nat) (a1 : Int32) (h : sd_H) (ρ : Int32) (cT : Nat × Nat) (h2 : sd_H) (hf : fX5_isPropped G a0 a1 h = some (ρ, cT, h2)) : sd_Met mX5_isPropped ((l, G), (2, 43), [.ref a0, .int a1], (sd_oI ρ, h2), cT) h := by
  refine sd_entry (plainFor_of_name rfl) rfl (Nat.le_of_ble_eq_true rfl) ?_
  show sd_J mX5_isPropped ((l, G), (2, 43), [.ref a0, .int a1], (sd_oI ρ, h2), cT) 0 [(0, .ref a0), (1, .int a1)] [] h cT
  unfold fX5_isPropped at hf
  refine sj_aload_n 0 dX5_isPropped_0 rfl ?_
  refine sj_iconst (v := 0) dX5_isPropped_1 (by decide) ?_
  refine sj_put (fpX5_58_4 _ _) hf dX5_isPropped_2 (fun h hf => ?_)
  refine sj_aload_n 0 dX5_isPropped_5 rfl ?_
  refine sj_iload_n 1 dX5_isPropped_6 rfl ?_
  obtain ⟨fs7, he7, hf⟩ := sd_isC_some hf
  refine sj_cI (rest := []) (fun _ _ _ e => sj_runV (n := 1) (As := [.int a1]) (rest := []) (sX5_isSeat l G a0 a1 h _ _ _ e) he7 rfl rfl rfl rfl q3174 q3176 qs84 q127 q3177 (by decide +kernel) rfl rfl ⟨Nat.le_of_ble_eq_true rfl, Nat.le_of_ble_eq_true rfl⟩ rfl (Nat.le_of_ble_eq_true rfl) dX5_isPropped_7) hf (fun r1 h c hf => ?_)
  refine sj_ifeq 21 hf dX5_isPropped_10 (by decide) (fun g10 hf => ?_) (fun g10 hf => ?_)
  · refine sj_aload_n 0 dX5_isPropped_21 rfl ?_
    refine sj_iconst (v := 1) dX5_isPropped_22 (by decide) ?_
    obtain ⟨fs23, he23, hf⟩ := sd_isC_some hf
    refine sj_cI (rest := []) (fun _ _ _ e => sj_runV (n := 1) (As := [.int 1]) (rest := []) (sX5_isNot l G a0 1 h _ _ _ e) he23 rfl rfl rfl rfl q3190 q3192 qs87 q127 q3193 (by decide +kernel) rfl rfl ⟨Nat.le_of_ble_eq_true rfl, Nat.le_of_ble_eq_true rfl⟩ rfl (Nat.le_of_ble_eq_true rfl) dX5_isPropped_23) hf (fun r2 h c hf => ?_)
    exact sj_zret hf rfl rfl dX5_isPropped_26
  · refine sj_aload_n 0 dX5_isPropped_13 rfl ?_
    refine sj_iload_n 1 dX5_isPropped_14 rfl ?_
    obtain ⟨fs15, he15, hf⟩ := sd_isC_some hf
    refine sj_cI (rest := []) (fun _ _ _ e => sj_runV (n := 1) (As := [.int a1]) (rest := []) (sX5_hasProp l G a0 a1 h _ _ _ e) he15 rfl rfl rfl rfl q3186 q3188 qs86 q127 q3189 (by decide +kernel) rfl rfl ⟨Nat.le_of_ble_eq_true rfl, Nat.le_of_ble_eq_true rfl⟩ rfl (Nat.le_of_ble_eq_true rfl) dX5_isPropped_15) hf (fun r3 h c hf => ?_)
    refine sj_goto 26 dX5_isPropped_18 (by decide) ?_
    exact sj_zret hf rfl rfl dX5_isPropped_26
/-! SofaDigModel.hasTop(I)Z -/
abbrev cX5_hasTop : ByteArray := prog_46_method_99_code
def yX5_hasTop : MethodName := ⟨RX5, "hasTop", "(I)Z"⟩
def dkwX5_hasTop_1 : List UInt8 := [167, 0, 4, 3, 181, 0, 58, 42, 180, 0, 58, 154, 0, 7, 4, 167, 0, 4, 3, 172]
abbrev dktX5_hasTop_1 : List UInt8 := dkwX5_hasTop_1 ++ []
def dkwX5_hasTop_0 : List UInt8 := [42, 42, 27, 182, 0, 78, 154, 0, 7, 4, 167, 0, 16, 42, 27, 182, 0, 74, 154, 0, 7, 5]
abbrev dktX5_hasTop_0 : List UInt8 := dkwX5_hasTop_0 ++ dktX5_hasTop_1
theorem dksX5_hasTop_0 : cX5_hasTop.data.toList.drop 0 = dktX5_hasTop_0 := by decide +kernel
theorem dksX5_hasTop_1 : cX5_hasTop.data.toList.drop 22 = dktX5_hasTop_1 := dk_seg dksX5_hasTop_0 22 rfl rfl
theorem dX5_hasTop_0 : decode cX5_hasTop 0 = .ok (.aload_n 0, 1) := dk_42 (dk_at dksX5_hasTop_0 0 rfl rfl)
theorem dX5_hasTop_1 : decode cX5_hasTop 1 = .ok (.aload_n 0, 1) := dk_42 (dk_at dksX5_hasTop_0 1 rfl rfl)
theorem dX5_hasTop_2 : decode cX5_hasTop 2 = .ok (.iload_n 1, 1) := dk_27 (dk_at dksX5_hasTop_0 2 rfl rfl)
theorem dX5_hasTop_3 : decode cX5_hasTop 3 = .ok (.invokevirtual 78, 3) := dk_182 0 78 (dk_at dksX5_hasTop_0 3 rfl rfl)
theorem dX5_hasTop_6 : decode cX5_hasTop 6 = .ok (.ifCond .ne 7, 3) := dk_154 0 7 (dk_at dksX5_hasTop_0 6 rfl rfl)
theorem dX5_hasTop_9 : decode cX5_hasTop 9 = .ok (.iconst 1, 1) := dk_4 (dk_at dksX5_hasTop_0 9 rfl rfl)
theorem dX5_hasTop_10 : decode cX5_hasTop 10 = .ok (.goto 16, 3) := dk_167 0 16 (dk_at dksX5_hasTop_0 10 rfl rfl)
theorem dX5_hasTop_13 : decode cX5_hasTop 13 = .ok (.aload_n 0, 1) := dk_42 (dk_at dksX5_hasTop_0 13 rfl rfl)
theorem dX5_hasTop_14 : decode cX5_hasTop 14 = .ok (.iload_n 1, 1) := dk_27 (dk_at dksX5_hasTop_0 14 rfl rfl)
theorem dX5_hasTop_15 : decode cX5_hasTop 15 = .ok (.invokevirtual 74, 3) := dk_182 0 74 (dk_at dksX5_hasTop_0 15 rfl rfl)
theorem dX5_hasTop_18 : decode cX5_hasTop 18 = .ok (.ifCond .ne 7, 3) := dk_154 0 7 (dk_at dksX5_hasTop_0 18 rfl rfl)
theorem dX5_hasTop_21 : decode cX5_hasTop 21 = .ok (.iconst 2, 1) := dk_5 (dk_at dksX5_hasTop_0 21 rfl rfl)
theorem dX5_hasTop_22 : decode cX5_hasTop 22 = .ok (.goto 4, 3) := dk_167 0 4 (dk_at dksX5_hasTop_1 0 rfl rfl)
theorem dX5_hasTop_25 : decode cX5_hasTop 25 = .ok (.iconst 0, 1) := dk_3 (dk_at dksX5_hasTop_1 3 rfl rfl)
theorem dX5_hasTop_26 : decode cX5_hasTop 26 = .ok (.putfield 58, 3) := dk_181 0 58 (dk_at dksX5_hasTop_1 4 rfl rfl)
theorem dX5_hasTop_29 : decode cX5_hasTop 29 = .ok (.aload_n 0, 1) := dk_42 (dk_at dksX5_hasTop_1 7 rfl rfl)
theorem dX5_hasTop_30 : decode cX5_hasTop 30 = .ok (.getfield 58, 3) := dk_180 0 58 (dk_at dksX5_hasTop_1 8 rfl rfl)
theorem dX5_hasTop_33 : decode cX5_hasTop 33 = .ok (.ifCond .ne 7, 3) := dk_154 0 7 (dk_at dksX5_hasTop_1 11 rfl rfl)
theorem dX5_hasTop_36 : decode cX5_hasTop 36 = .ok (.iconst 1, 1) := dk_4 (dk_at dksX5_hasTop_1 14 rfl rfl)
theorem dX5_hasTop_37 : decode cX5_hasTop 37 = .ok (.goto 4, 3) := dk_167 0 4 (dk_at dksX5_hasTop_1 15 rfl rfl)
theorem dX5_hasTop_40 : decode cX5_hasTop 40 = .ok (.iconst 0, 1) := dk_3 (dk_at dksX5_hasTop_1 18 rfl rfl)
theorem dX5_hasTop_41 : decode cX5_hasTop 41 = .ok (.ireturn, 1) := dk_172 (dk_at dksX5_hasTop_1 19 rfl rfl)
abbrev mX5_hasTop : sd_Y := (yX5_hasTop, cX5_hasTop, 2, some (.boolean), none)
def fX5_hasTop_b26 (G : sd_G) (w0 : Nat) (y0 : Int32) (y1 : Nat) : sd_M Int32 :=
  sd_bnd (sd_put 4 0 .int y1 (.int y0)) fun _ =>
  sd_bnd (sd_getI G 4 0 w0) fun v3 =>
  if v3 = 0 then (
    sd_ret 1)
  else (
    sd_ret 0)
set_option maxHeartbeats 4000000 in
theorem sX5_hasTop_b26 (l : Launch) (G : sd_G) (a0 : Nat) (a1 : Int32) (ρ : Int32) (h2 : sd_H) (cT : Nat × Nat) (w0 : Nat) (y0 : Int32) (y1 : Nat) (h : sd_H) (c : Nat × Nat) (hf : fX5_hasTop_b26 G w0 y0 y1 h = some (ρ, c, h2)) : sd_J mX5_hasTop ((l, G), (2, 43), [.ref a0, .int a1], (sd_oI ρ, h2), cT) 26 [(0, .ref w0)] [.int y0, .ref y1] h c := by
  unfold fX5_hasTop_b26 at hf
  refine sj_put (fpX5_58_4 _ _) hf dX5_hasTop_26 (fun h hf => ?_)
  refine sj_aload_n 0 dX5_hasTop_29 rfl ?_
  refine sj_getI fdX5_58_4 hf dX5_hasTop_30 (fun v3 hf => ?_)
  refine sj_ifne 40 hf dX5_hasTop_33 (by decide) (fun g33 hf => ?_) (fun g33 hf => ?_)
  · refine sj_iconst (v := 0) dX5_hasTop_40 (by decide) ?_
    exact sj_zretC (o := sd_oI) (ty := .boolean) rfl hf rfl rfl rfl dX5_hasTop_41
  · refine sj_iconst (v := 1) dX5_hasTop_36 (by decide) ?_
    refine sj_goto 41 dX5_hasTop_37 (by decide) ?_
    exact sj_zretC (o := sd_oI) (ty := .boolean) rfl hf rfl rfl rfl dX5_hasTop_41
def fX5_hasTop (G : sd_G) (a0 : Nat) (a1 : Int32) : sd_M Int32 :=
  sd_bnd (sd_isC G 4 a0) fun _ =>
  sd_bnd (fX5_isSeat G a0 a1) fun r1 =>
  if r1 = 0 then (
    fX5_hasTop_b26 G a0 1 a0)
  else (
    sd_bnd (sd_isC G 4 a0) fun _ =>
    sd_bnd (fX5_tall G a0 a1) fun r2 =>
    if r2 = 0 then (
      fX5_hasTop_b26 G a0 2 a0)
    else (
      fX5_hasTop_b26 G a0 0 a0))
set_option maxHeartbeats 4000000 in
theorem sX5_hasTop (l : Launch) (G : sd_G) (a0 : Nat) (a1 : Int32) (h : sd_H) (ρ : Int32) (cT : Nat × Nat) (h2 : sd_H) (hf : fX5_hasTop G a0 a1 h = some (ρ, cT, h2)) : sd_Met mX5_hasTop ((l, G), (2, 43), [.ref a0, .int a1], (sd_oI ρ, h2), cT) h := by
  refine sd_entry (plainFor_of_name rfl) rfl (Nat.le_of_ble_eq_true rfl) ?_
  show sd_J mX5_hasTop ((l, G), (2, 43), [.ref a0, .int a1], (sd_oI ρ, h2), cT) 0 [(0, .ref a0), (1, .int a1)] [] h cT
  unfold fX5_hasTop at hf
  refine sj_aload_n 0 dX5_hasTop_0 rfl ?_
  refine sj_aload_n 0 dX5_hasTop_1 rfl ?_
  refine sj_iload_n 1 dX5_hasTop_2 rfl ?_
  obtain ⟨fs3, he3, hf⟩ := sd_isC_some hf
  refine sj_cI (rest := [.ref a0]) (fun _ _ _ e => sj_runV (n := 1) (As := [.int a1]) (rest := [.ref a0]) (sX5_isSeat l G a0 a1 h _ _ _ e) he3 rfl rfl rfl rfl q3174 q3176 qs84 q127 q3177 (by decide +kernel) rfl rfl ⟨Nat.le_of_ble_eq_true rfl, Nat.le_of_ble_eq_true rfl⟩ rfl (Nat.le_of_ble_eq_true rfl) dX5_hasTop_3) hf (fun r1 h c hf => ?_)
  refine sj_ifne 13 hf dX5_hasTop_6 (by decide) (fun g6 hf => ?_) (fun g6 hf => ?_)
  · refine sj_aload_n 0 dX5_hasTop_13 rfl ?_
    refine sj_iload_n 1 dX5_hasTop_14 rfl ?_
    obtain ⟨fs15, he15, hf⟩ := sd_isC_some hf
    refine sj_cI (rest := [.ref a0]) (fun _ _ _ e => sj_runV (n := 1) (As := [.int a1]) (rest := [.ref a0]) (sX5_tall l G a0 a1 h _ _ _ e) he15 rfl rfl rfl rfl q3178 q3180 qs85 q127 q3181 (by decide +kernel) rfl rfl ⟨Nat.le_of_ble_eq_true rfl, Nat.le_of_ble_eq_true rfl⟩ rfl (Nat.le_of_ble_eq_true rfl) dX5_hasTop_15) hf (fun r2 h c hf => ?_)
    refine sj_ifne 25 hf dX5_hasTop_18 (by decide) (fun g18 hf => ?_) (fun g18 hf => ?_)
    · refine sj_iconst (v := 0) dX5_hasTop_25 (by decide) ?_
      exact sj_loc [0] rfl (sX5_hasTop_b26 l G a0 a1 ρ h2 cT a0 0 a0 _ _ hf)
    · refine sj_iconst (v := 2) dX5_hasTop_21 (by decide) ?_
      refine sj_goto 26 dX5_hasTop_22 (by decide) ?_
      exact sj_loc [0] rfl (sX5_hasTop_b26 l G a0 a1 ρ h2 cT a0 2 a0 _ _ hf)
  · refine sj_iconst (v := 1) dX5_hasTop_9 (by decide) ?_
    refine sj_goto 26 dX5_hasTop_10 (by decide) ?_
    exact sj_loc [0] rfl (sX5_hasTop_b26 l G a0 a1 ρ h2 cT a0 1 a0 _ _ hf)
/-! SofaDigModel.top(I)I -/
abbrev cX5_top : ByteArray := prog_46_method_15_code
def yX5_top : MethodName := ⟨RX5, "top", "(I)I"⟩
def dkwX5_top_0 : List UInt8 := [42, 180, 0, 40, 16, 13, 16, 10, 27, 104, 96, 42, 27, 182, 0, 74, 96, 4, 100, 46, 172]
abbrev dktX5_top_0 : List UInt8 := dkwX5_top_0 ++ []
theorem dksX5_top_0 : cX5_top.data.toList.drop 0 = dktX5_top_0 := by decide +kernel
theorem dX5_top_0 : decode cX5_top 0 = .ok (.aload_n 0, 1) := dk_42 (dk_at dksX5_top_0 0 rfl rfl)
theorem dX5_top_1 : decode cX5_top 1 = .ok (.getfield 40, 3) := dk_180 0 40 (dk_at dksX5_top_0 1 rfl rfl)
theorem dX5_top_4 : decode cX5_top 4 = .ok (.bipush 13, 2) := dk_16 13 (dk_at dksX5_top_0 4 rfl rfl)
theorem dX5_top_6 : decode cX5_top 6 = .ok (.bipush 10, 2) := dk_16 10 (dk_at dksX5_top_0 6 rfl rfl)
theorem dX5_top_8 : decode cX5_top 8 = .ok (.iload_n 1, 1) := dk_27 (dk_at dksX5_top_0 8 rfl rfl)
theorem dX5_top_9 : decode cX5_top 9 = .ok (.imul, 1) := dk_104 (dk_at dksX5_top_0 9 rfl rfl)
theorem dX5_top_10 : decode cX5_top 10 = .ok (.iadd, 1) := dk_96 (dk_at dksX5_top_0 10 rfl rfl)
theorem dX5_top_11 : decode cX5_top 11 = .ok (.aload_n 0, 1) := dk_42 (dk_at dksX5_top_0 11 rfl rfl)
theorem dX5_top_12 : decode cX5_top 12 = .ok (.iload_n 1, 1) := dk_27 (dk_at dksX5_top_0 12 rfl rfl)
theorem dX5_top_13 : decode cX5_top 13 = .ok (.invokevirtual 74, 3) := dk_182 0 74 (dk_at dksX5_top_0 13 rfl rfl)
theorem dX5_top_16 : decode cX5_top 16 = .ok (.iadd, 1) := dk_96 (dk_at dksX5_top_0 16 rfl rfl)
theorem dX5_top_17 : decode cX5_top 17 = .ok (.iconst 1, 1) := dk_4 (dk_at dksX5_top_0 17 rfl rfl)
theorem dX5_top_18 : decode cX5_top 18 = .ok (.isub, 1) := dk_100 (dk_at dksX5_top_0 18 rfl rfl)
theorem dX5_top_19 : decode cX5_top 19 = .ok (.iaload, 1) := dk_46 (dk_at dksX5_top_0 19 rfl rfl)
theorem dX5_top_20 : decode cX5_top 20 = .ok (.ireturn, 1) := dk_172 (dk_at dksX5_top_0 20 rfl rfl)
abbrev mX5_top : sd_Y := (yX5_top, cX5_top, 2, some (.int), none)
def fX5_top (G : sd_G) (a0 : Nat) (a1 : Int32) : sd_M Int32 :=
  sd_bnd (sd_getR G 4 15 a0) fun v1 =>
  sd_bnd (sd_isC G 4 a0) fun _ =>
  sd_bnd (fX5_tall G a0 a1) fun r2 =>
  sd_bnd (sd_aldI G 0 v1 ((((13 : Int32) + ((10 : Int32) * a1)) + r2) - 1)) fun v3 =>
  sd_ret v3
set_option maxHeartbeats 4000000 in
theorem sX5_top (l : Launch) (G : sd_G) (a0 : Nat) (a1 : Int32) (h : sd_H) (ρ : Int32) (cT : Nat × Nat) (h2 : sd_H) (hf : fX5_top G a0 a1 h = some (ρ, cT, h2)) : sd_Met mX5_top ((l, G), (1, 21), [.ref a0, .int a1], (sd_oI ρ, h2), cT) h := by
  refine sd_entry (plainFor_of_name rfl) rfl (Nat.le_of_ble_eq_true rfl) ?_
  show sd_J mX5_top ((l, G), (1, 21), [.ref a0, .int a1], (sd_oI ρ, h2), cT) 0 [(0, .ref a0), (1, .int a1)] [] h cT
  unfold fX5_top at hf
  refine sj_aload_n 0 dX5_top_0 rfl ?_
  refine sj_getR fdX5_40_4 hf dX5_top_1 (fun v1 hf => ?_)
  refine sj_bipush (v := 13) dX5_top_4 (by decide) ?_
  refine sj_bipush (v := 10) dX5_top_6 (by decide) ?_
  refine sj_iload_n 1 dX5_top_8 rfl ?_
  refine sj_imul dX5_top_9 ?_
  refine sj_iadd dX5_top_10 ?_
  refine sj_aload_n 0 dX5_top_11 rfl ?_
  refine sj_iload_n 1 dX5_top_12 rfl ?_
  obtain ⟨fs13, he13, hf⟩ := sd_isC_some hf
  refine sj_cI (rest := [.int ((13 : Int32) + ((10 : Int32) * a1)), .ref v1]) (fun _ _ _ e => sj_runV (n := 1) (As := [.int a1]) (rest := [.int ((13 : Int32) + ((10 : Int32) * a1)), .ref v1]) (sX5_tall l G a0 a1 h _ _ _ e) he13 rfl rfl rfl rfl q3178 q3180 qs85 q127 q3181 (by decide +kernel) rfl rfl ⟨Nat.le_of_ble_eq_true rfl, Nat.le_of_ble_eq_true rfl⟩ rfl (Nat.le_of_ble_eq_true rfl) dX5_top_13) hf (fun r2 h c hf => ?_)
  refine sj_iadd dX5_top_16 ?_
  refine sj_iconst (v := 1) dX5_top_17 (by decide) ?_
  refine sj_isub dX5_top_18 ?_
  refine sj_iald hf dX5_top_19 (fun v3 hf => ?_)
  exact sj_iret (o := sd_oI) hf rfl rfl rfl dX5_top_20
/-! SofaDigModel.topStratum(I)I -/
abbrev cX5_topStratum : ByteArray := prog_46_method_100_code
def yX5_topStratum : MethodName := ⟨RX5, "topStratum", "(I)I"⟩
def dkwX5_topStratum_0 : List UInt8 := [42, 27, 182, 1, 151, 153, 0, 14, 42, 27, 182, 0, 89, 16, 10, 112, 167, 0, 4, 3, 172]
abbrev dktX5_topStratum_0 : List UInt8 := dkwX5_topStratum_0 ++ []
theorem dksX5_topStratum_0 : cX5_topStratum.data.toList.drop 0 = dktX5_topStratum_0 := by decide +kernel
theorem dX5_topStratum_0 : decode cX5_topStratum 0 = .ok (.aload_n 0, 1) := dk_42 (dk_at dksX5_topStratum_0 0 rfl rfl)
theorem dX5_topStratum_1 : decode cX5_topStratum 1 = .ok (.iload_n 1, 1) := dk_27 (dk_at dksX5_topStratum_0 1 rfl rfl)
theorem dX5_topStratum_2 : decode cX5_topStratum 2 = .ok (.invokevirtual 407, 3) := dk_182 1 151 (dk_at dksX5_topStratum_0 2 rfl rfl)
theorem dX5_topStratum_5 : decode cX5_topStratum 5 = .ok (.ifCond .eq 14, 3) := dk_153 0 14 (dk_at dksX5_topStratum_0 5 rfl rfl)
theorem dX5_topStratum_8 : decode cX5_topStratum 8 = .ok (.aload_n 0, 1) := dk_42 (dk_at dksX5_topStratum_0 8 rfl rfl)
theorem dX5_topStratum_9 : decode cX5_topStratum 9 = .ok (.iload_n 1, 1) := dk_27 (dk_at dksX5_topStratum_0 9 rfl rfl)
theorem dX5_topStratum_10 : decode cX5_topStratum 10 = .ok (.invokevirtual 89, 3) := dk_182 0 89 (dk_at dksX5_topStratum_0 10 rfl rfl)
theorem dX5_topStratum_13 : decode cX5_topStratum 13 = .ok (.bipush 10, 2) := dk_16 10 (dk_at dksX5_topStratum_0 13 rfl rfl)
theorem dX5_topStratum_15 : decode cX5_topStratum 15 = .ok (.irem, 1) := dk_112 (dk_at dksX5_topStratum_0 15 rfl rfl)
theorem dX5_topStratum_16 : decode cX5_topStratum 16 = .ok (.goto 4, 3) := dk_167 0 4 (dk_at dksX5_topStratum_0 16 rfl rfl)
theorem dX5_topStratum_19 : decode cX5_topStratum 19 = .ok (.iconst 0, 1) := dk_3 (dk_at dksX5_topStratum_0 19 rfl rfl)
theorem dX5_topStratum_20 : decode cX5_topStratum 20 = .ok (.ireturn, 1) := dk_172 (dk_at dksX5_topStratum_0 20 rfl rfl)
abbrev mX5_topStratum : sd_Y := (yX5_topStratum, cX5_topStratum, 2, some (.int), none)
def fX5_topStratum (G : sd_G) (a0 : Nat) (a1 : Int32) : sd_M Int32 :=
  sd_bnd (sd_isC G 4 a0) fun _ =>
  sd_bnd (fX5_hasTop G a0 a1) fun r1 =>
  if r1 = 0 then (
    sd_ret 0)
  else (
    sd_bnd (sd_isC G 4 a0) fun _ =>
    sd_bnd (fX5_top G a0 a1) fun r2 =>
    sd_ret (r2 - r2 / 10 * 10))
set_option maxHeartbeats 4000000 in
theorem sX5_topStratum (l : Launch) (G : sd_G) (a0 : Nat) (a1 : Int32) (h : sd_H) (ρ : Int32) (cT : Nat × Nat) (h2 : sd_H) (hf : fX5_topStratum G a0 a1 h = some (ρ, cT, h2)) : sd_Met mX5_topStratum ((l, G), (3, 64), [.ref a0, .int a1], (sd_oI ρ, h2), cT) h := by
  refine sd_entry (plainFor_of_name rfl) rfl (Nat.le_of_ble_eq_true rfl) ?_
  show sd_J mX5_topStratum ((l, G), (3, 64), [.ref a0, .int a1], (sd_oI ρ, h2), cT) 0 [(0, .ref a0), (1, .int a1)] [] h cT
  unfold fX5_topStratum at hf
  refine sj_aload_n 0 dX5_topStratum_0 rfl ?_
  refine sj_iload_n 1 dX5_topStratum_1 rfl ?_
  obtain ⟨fs2, he2, hf⟩ := sd_isC_some hf
  refine sj_cI (rest := []) (fun _ _ _ e => sj_runV (n := 1) (As := [.int a1]) (rest := []) (sX5_hasTop l G a0 a1 h _ _ _ e) he2 rfl rfl rfl rfl q3198 q3200 qs88 q127 q3201 (by decide +kernel) rfl rfl ⟨Nat.le_of_ble_eq_true rfl, Nat.le_of_ble_eq_true rfl⟩ rfl (Nat.le_of_ble_eq_true rfl) dX5_topStratum_2) hf (fun r1 h c hf => ?_)
  refine sj_ifeq 19 hf dX5_topStratum_5 (by decide) (fun g5 hf => ?_) (fun g5 hf => ?_)
  · refine sj_iconst (v := 0) dX5_topStratum_19 (by decide) ?_
    exact sj_iret (o := sd_oI) hf rfl rfl rfl dX5_topStratum_20
  · refine sj_aload_n 0 dX5_topStratum_8 rfl ?_
    refine sj_iload_n 1 dX5_topStratum_9 rfl ?_
    obtain ⟨fs10, he10, hf⟩ := sd_isC_some hf
    refine sj_cI (rest := []) (fun _ _ _ e => sj_runV (n := 1) (As := [.int a1]) (rest := []) (sX5_top l G a0 a1 h _ _ _ e) he10 rfl rfl rfl rfl q3202 q3204 qs89 q127 q3205 (by decide +kernel) rfl rfl ⟨Nat.le_of_ble_eq_true rfl, Nat.le_of_ble_eq_true rfl⟩ rfl (Nat.le_of_ble_eq_true rfl) dX5_topStratum_10) hf (fun r2 h c hf => ?_)
    refine sj_bipush (v := 10) dX5_topStratum_13 (by decide) ?_
    refine sj_irem dX5_topStratum_15 (by decide) ?_
    refine sj_goto 20 dX5_topStratum_16 (by decide) ?_
    exact sj_iret (o := sd_oI) hf rfl rfl rfl dX5_topStratum_20
/-! SofaDigModel.isTopLoose(I)Z -/
abbrev cX5_isTopLoose : ByteArray := prog_46_method_101_code
def yX5_isTopLoose : MethodName := ⟨RX5, "isTopLoose", "(I)Z"⟩
def dkwX5_isTopLoose_1 : List UInt8 := [160, 0, 7, 4, 167, 0, 4, 3, 172]
abbrev dktX5_isTopLoose_1 : List UInt8 := dkwX5_isTopLoose_1 ++ []
def dkwX5_isTopLoose_0 : List UInt8 := [42, 27, 182, 1, 151, 153, 0, 24, 42, 180, 0, 40, 16, 93, 42, 27, 182, 0, 89, 96, 46, 4]
abbrev dktX5_isTopLoose_0 : List UInt8 := dkwX5_isTopLoose_0 ++ dktX5_isTopLoose_1
theorem dksX5_isTopLoose_0 : cX5_isTopLoose.data.toList.drop 0 = dktX5_isTopLoose_0 := by decide +kernel
theorem dksX5_isTopLoose_1 : cX5_isTopLoose.data.toList.drop 22 = dktX5_isTopLoose_1 := dk_seg dksX5_isTopLoose_0 22 rfl rfl
theorem dX5_isTopLoose_0 : decode cX5_isTopLoose 0 = .ok (.aload_n 0, 1) := dk_42 (dk_at dksX5_isTopLoose_0 0 rfl rfl)
theorem dX5_isTopLoose_1 : decode cX5_isTopLoose 1 = .ok (.iload_n 1, 1) := dk_27 (dk_at dksX5_isTopLoose_0 1 rfl rfl)
theorem dX5_isTopLoose_2 : decode cX5_isTopLoose 2 = .ok (.invokevirtual 407, 3) := dk_182 1 151 (dk_at dksX5_isTopLoose_0 2 rfl rfl)
theorem dX5_isTopLoose_5 : decode cX5_isTopLoose 5 = .ok (.ifCond .eq 24, 3) := dk_153 0 24 (dk_at dksX5_isTopLoose_0 5 rfl rfl)
theorem dX5_isTopLoose_8 : decode cX5_isTopLoose 8 = .ok (.aload_n 0, 1) := dk_42 (dk_at dksX5_isTopLoose_0 8 rfl rfl)
theorem dX5_isTopLoose_9 : decode cX5_isTopLoose 9 = .ok (.getfield 40, 3) := dk_180 0 40 (dk_at dksX5_isTopLoose_0 9 rfl rfl)
theorem dX5_isTopLoose_12 : decode cX5_isTopLoose 12 = .ok (.bipush 93, 2) := dk_16 93 (dk_at dksX5_isTopLoose_0 12 rfl rfl)
theorem dX5_isTopLoose_14 : decode cX5_isTopLoose 14 = .ok (.aload_n 0, 1) := dk_42 (dk_at dksX5_isTopLoose_0 14 rfl rfl)
theorem dX5_isTopLoose_15 : decode cX5_isTopLoose 15 = .ok (.iload_n 1, 1) := dk_27 (dk_at dksX5_isTopLoose_0 15 rfl rfl)
theorem dX5_isTopLoose_16 : decode cX5_isTopLoose 16 = .ok (.invokevirtual 89, 3) := dk_182 0 89 (dk_at dksX5_isTopLoose_0 16 rfl rfl)
theorem dX5_isTopLoose_19 : decode cX5_isTopLoose 19 = .ok (.iadd, 1) := dk_96 (dk_at dksX5_isTopLoose_0 19 rfl rfl)
theorem dX5_isTopLoose_20 : decode cX5_isTopLoose 20 = .ok (.iaload, 1) := dk_46 (dk_at dksX5_isTopLoose_0 20 rfl rfl)
theorem dX5_isTopLoose_21 : decode cX5_isTopLoose 21 = .ok (.iconst 1, 1) := dk_4 (dk_at dksX5_isTopLoose_0 21 rfl rfl)
theorem dX5_isTopLoose_22 : decode cX5_isTopLoose 22 = .ok (.if_icmp .ne 7, 3) := dk_160 0 7 (dk_at dksX5_isTopLoose_1 0 rfl rfl)
theorem dX5_isTopLoose_25 : decode cX5_isTopLoose 25 = .ok (.iconst 1, 1) := dk_4 (dk_at dksX5_isTopLoose_1 3 rfl rfl)
theorem dX5_isTopLoose_26 : decode cX5_isTopLoose 26 = .ok (.goto 4, 3) := dk_167 0 4 (dk_at dksX5_isTopLoose_1 4 rfl rfl)
theorem dX5_isTopLoose_29 : decode cX5_isTopLoose 29 = .ok (.iconst 0, 1) := dk_3 (dk_at dksX5_isTopLoose_1 7 rfl rfl)
theorem dX5_isTopLoose_30 : decode cX5_isTopLoose 30 = .ok (.ireturn, 1) := dk_172 (dk_at dksX5_isTopLoose_1 8 rfl rfl)
abbrev mX5_isTopLoose : sd_Y := (yX5_isTopLoose, cX5_isTopLoose, 2, some (.boolean), none)
def fX5_isTopLoose (G : sd_G) (a0 : Nat) (a1 : Int32) : sd_M Int32 :=
  sd_bnd (sd_isC G 4 a0) fun _ =>
  sd_bnd (fX5_hasTop G a0 a1) fun r1 =>
  if r1 = 0 then (
    sd_ret 0)
  else (
    sd_bnd (sd_getR G 4 15 a0) fun v2 =>
    sd_bnd (sd_isC G 4 a0) fun _ =>
    sd_bnd (fX5_top G a0 a1) fun r3 =>
    sd_bnd (sd_aldI G 0 v2 ((93 : Int32) + r3)) fun v4 =>
    if v4 = 1 then (
      sd_ret 1)
    else (
      sd_ret 0))
set_option maxHeartbeats 4000000 in
theorem sX5_isTopLoose (l : Launch) (G : sd_G) (a0 : Nat) (a1 : Int32) (h : sd_H) (ρ : Int32) (cT : Nat × Nat) (h2 : sd_H) (hf : fX5_isTopLoose G a0 a1 h = some (ρ, cT, h2)) : sd_Met mX5_isTopLoose ((l, G), (3, 64), [.ref a0, .int a1], (sd_oI ρ, h2), cT) h := by
  refine sd_entry (plainFor_of_name rfl) rfl (Nat.le_of_ble_eq_true rfl) ?_
  show sd_J mX5_isTopLoose ((l, G), (3, 64), [.ref a0, .int a1], (sd_oI ρ, h2), cT) 0 [(0, .ref a0), (1, .int a1)] [] h cT
  unfold fX5_isTopLoose at hf
  refine sj_aload_n 0 dX5_isTopLoose_0 rfl ?_
  refine sj_iload_n 1 dX5_isTopLoose_1 rfl ?_
  obtain ⟨fs2, he2, hf⟩ := sd_isC_some hf
  refine sj_cI (rest := []) (fun _ _ _ e => sj_runV (n := 1) (As := [.int a1]) (rest := []) (sX5_hasTop l G a0 a1 h _ _ _ e) he2 rfl rfl rfl rfl q3198 q3200 qs88 q127 q3201 (by decide +kernel) rfl rfl ⟨Nat.le_of_ble_eq_true rfl, Nat.le_of_ble_eq_true rfl⟩ rfl (Nat.le_of_ble_eq_true rfl) dX5_isTopLoose_2) hf (fun r1 h c hf => ?_)
  refine sj_ifeq 29 hf dX5_isTopLoose_5 (by decide) (fun g5 hf => ?_) (fun g5 hf => ?_)
  · refine sj_iconst (v := 0) dX5_isTopLoose_29 (by decide) ?_
    exact sj_zretC (o := sd_oI) (ty := .boolean) rfl hf rfl rfl rfl dX5_isTopLoose_30
  · refine sj_aload_n 0 dX5_isTopLoose_8 rfl ?_
    refine sj_getR fdX5_40_4 hf dX5_isTopLoose_9 (fun v2 hf => ?_)
    refine sj_bipush (v := 93) dX5_isTopLoose_12 (by decide) ?_
    refine sj_aload_n 0 dX5_isTopLoose_14 rfl ?_
    refine sj_iload_n 1 dX5_isTopLoose_15 rfl ?_
    obtain ⟨fs16, he16, hf⟩ := sd_isC_some hf
    refine sj_cI (rest := [.int 93, .ref v2]) (fun _ _ _ e => sj_runV (n := 1) (As := [.int a1]) (rest := [.int 93, .ref v2]) (sX5_top l G a0 a1 h _ _ _ e) he16 rfl rfl rfl rfl q3202 q3204 qs89 q127 q3205 (by decide +kernel) rfl rfl ⟨Nat.le_of_ble_eq_true rfl, Nat.le_of_ble_eq_true rfl⟩ rfl (Nat.le_of_ble_eq_true rfl) dX5_isTopLoose_16) hf (fun r3 h c hf => ?_)
    refine sj_iadd dX5_isTopLoose_19 ?_
    refine sj_iald hf dX5_isTopLoose_20 (fun v4 hf => ?_)
    refine sj_iconst (v := 1) dX5_isTopLoose_21 (by decide) ?_
    refine sj_icne 29 hf dX5_isTopLoose_22 (by decide) (fun g22 hf => ?_) (fun g22 hf => ?_)
    · refine sj_iconst (v := 0) dX5_isTopLoose_29 (by decide) ?_
      exact sj_zretC (o := sd_oI) (ty := .boolean) rfl hf rfl rfl rfl dX5_isTopLoose_30
    · refine sj_iconst (v := 1) dX5_isTopLoose_25 (by decide) ?_
      refine sj_goto 30 dX5_isTopLoose_26 (by decide) ?_
      exact sj_zretC (o := sd_oI) (ty := .boolean) rfl hf rfl rfl rfl dX5_isTopLoose_30
/-! SofaDigModel.hasTopSpring(I)Z -/
abbrev cX5_hasTopSpring : ByteArray := prog_46_method_102_code
def yX5_hasTopSpring : MethodName := ⟨RX5, "hasTopSpring", "(I)Z"⟩
def dkwX5_hasTopSpring_1 : List UInt8 := [4, 167, 0, 4, 3, 172]
abbrev dktX5_hasTopSpring_1 : List UInt8 := dkwX5_hasTopSpring_1 ++ []
def dkwX5_hasTopSpring_0 : List UInt8 := [42, 27, 182, 1, 151, 153, 0, 23, 42, 180, 0, 20, 180, 0, 85, 42, 27, 182, 0, 89, 51, 153, 0, 7]
abbrev dktX5_hasTopSpring_0 : List UInt8 := dkwX5_hasTopSpring_0 ++ dktX5_hasTopSpring_1
theorem dksX5_hasTopSpring_0 : cX5_hasTopSpring.data.toList.drop 0 = dktX5_hasTopSpring_0 := by decide +kernel
theorem dksX5_hasTopSpring_1 : cX5_hasTopSpring.data.toList.drop 24 = dktX5_hasTopSpring_1 := dk_seg dksX5_hasTopSpring_0 24 rfl rfl
theorem dX5_hasTopSpring_0 : decode cX5_hasTopSpring 0 = .ok (.aload_n 0, 1) := dk_42 (dk_at dksX5_hasTopSpring_0 0 rfl rfl)
theorem dX5_hasTopSpring_1 : decode cX5_hasTopSpring 1 = .ok (.iload_n 1, 1) := dk_27 (dk_at dksX5_hasTopSpring_0 1 rfl rfl)
theorem dX5_hasTopSpring_2 : decode cX5_hasTopSpring 2 = .ok (.invokevirtual 407, 3) := dk_182 1 151 (dk_at dksX5_hasTopSpring_0 2 rfl rfl)
theorem dX5_hasTopSpring_5 : decode cX5_hasTopSpring 5 = .ok (.ifCond .eq 23, 3) := dk_153 0 23 (dk_at dksX5_hasTopSpring_0 5 rfl rfl)
theorem dX5_hasTopSpring_8 : decode cX5_hasTopSpring 8 = .ok (.aload_n 0, 1) := dk_42 (dk_at dksX5_hasTopSpring_0 8 rfl rfl)
theorem dX5_hasTopSpring_9 : decode cX5_hasTopSpring 9 = .ok (.getfield 20, 3) := dk_180 0 20 (dk_at dksX5_hasTopSpring_0 9 rfl rfl)
theorem dX5_hasTopSpring_12 : decode cX5_hasTopSpring 12 = .ok (.getfield 85, 3) := dk_180 0 85 (dk_at dksX5_hasTopSpring_0 12 rfl rfl)
theorem dX5_hasTopSpring_15 : decode cX5_hasTopSpring 15 = .ok (.aload_n 0, 1) := dk_42 (dk_at dksX5_hasTopSpring_0 15 rfl rfl)
theorem dX5_hasTopSpring_16 : decode cX5_hasTopSpring 16 = .ok (.iload_n 1, 1) := dk_27 (dk_at dksX5_hasTopSpring_0 16 rfl rfl)
theorem dX5_hasTopSpring_17 : decode cX5_hasTopSpring 17 = .ok (.invokevirtual 89, 3) := dk_182 0 89 (dk_at dksX5_hasTopSpring_0 17 rfl rfl)
theorem dX5_hasTopSpring_20 : decode cX5_hasTopSpring 20 = .ok (.baload, 1) := dk_51 (dk_at dksX5_hasTopSpring_0 20 rfl rfl)
theorem dX5_hasTopSpring_21 : decode cX5_hasTopSpring 21 = .ok (.ifCond .eq 7, 3) := dk_153 0 7 (dk_at dksX5_hasTopSpring_0 21 rfl rfl)
theorem dX5_hasTopSpring_24 : decode cX5_hasTopSpring 24 = .ok (.iconst 1, 1) := dk_4 (dk_at dksX5_hasTopSpring_1 0 rfl rfl)
theorem dX5_hasTopSpring_25 : decode cX5_hasTopSpring 25 = .ok (.goto 4, 3) := dk_167 0 4 (dk_at dksX5_hasTopSpring_1 1 rfl rfl)
theorem dX5_hasTopSpring_28 : decode cX5_hasTopSpring 28 = .ok (.iconst 0, 1) := dk_3 (dk_at dksX5_hasTopSpring_1 4 rfl rfl)
theorem dX5_hasTopSpring_29 : decode cX5_hasTopSpring 29 = .ok (.ireturn, 1) := dk_172 (dk_at dksX5_hasTopSpring_1 5 rfl rfl)
abbrev mX5_hasTopSpring : sd_Y := (yX5_hasTopSpring, cX5_hasTopSpring, 2, some (.boolean), none)
def fX5_hasTopSpring (G : sd_G) (a0 : Nat) (a1 : Int32) : sd_M Int32 :=
  sd_bnd (sd_isC G 4 a0) fun _ =>
  sd_bnd (fX5_hasTop G a0 a1) fun r1 =>
  if r1 = 0 then (
    sd_ret 0)
  else (
    sd_bnd (sd_getR G 4 4 a0) fun v2 =>
    sd_bnd (sd_getR G 5 11 v2) fun v3 =>
    sd_bnd (sd_isC G 4 a0) fun _ =>
    sd_bnd (fX5_top G a0 a1) fun r4 =>
    sd_bnd (sd_aldI G 3 v3 r4) fun v5 =>
    if v5 = 0 then (
      sd_ret 0)
    else (
      sd_ret 1))
set_option maxHeartbeats 4000000 in
theorem sX5_hasTopSpring (l : Launch) (G : sd_G) (a0 : Nat) (a1 : Int32) (h : sd_H) (ρ : Int32) (cT : Nat × Nat) (h2 : sd_H) (hf : fX5_hasTopSpring G a0 a1 h = some (ρ, cT, h2)) : sd_Met mX5_hasTopSpring ((l, G), (3, 64), [.ref a0, .int a1], (sd_oI ρ, h2), cT) h := by
  refine sd_entry (plainFor_of_name rfl) rfl (Nat.le_of_ble_eq_true rfl) ?_
  show sd_J mX5_hasTopSpring ((l, G), (3, 64), [.ref a0, .int a1], (sd_oI ρ, h2), cT) 0 [(0, .ref a0), (1, .int a1)] [] h cT
  unfold fX5_hasTopSpring at hf
  refine sj_aload_n 0 dX5_hasTopSpring_0 rfl ?_
  refine sj_iload_n 1 dX5_hasTopSpring_1 rfl ?_
  obtain ⟨fs2, he2, hf⟩ := sd_isC_some hf
  refine sj_cI (rest := []) (fun _ _ _ e => sj_runV (n := 1) (As := [.int a1]) (rest := []) (sX5_hasTop l G a0 a1 h _ _ _ e) he2 rfl rfl rfl rfl q3198 q3200 qs88 q127 q3201 (by decide +kernel) rfl rfl ⟨Nat.le_of_ble_eq_true rfl, Nat.le_of_ble_eq_true rfl⟩ rfl (Nat.le_of_ble_eq_true rfl) dX5_hasTopSpring_2) hf (fun r1 h c hf => ?_)
  refine sj_ifeq 28 hf dX5_hasTopSpring_5 (by decide) (fun g5 hf => ?_) (fun g5 hf => ?_)
  · refine sj_iconst (v := 0) dX5_hasTopSpring_28 (by decide) ?_
    exact sj_zretC (o := sd_oI) (ty := .boolean) rfl hf rfl rfl rfl dX5_hasTopSpring_29
  · refine sj_aload_n 0 dX5_hasTopSpring_8 rfl ?_
    refine sj_getR fdX5_20_4 hf dX5_hasTopSpring_9 (fun v2 hf => ?_)
    refine sj_getR fdX5_85_5 hf dX5_hasTopSpring_12 (fun v3 hf => ?_)
    refine sj_aload_n 0 dX5_hasTopSpring_15 rfl ?_
    refine sj_iload_n 1 dX5_hasTopSpring_16 rfl ?_
    obtain ⟨fs17, he17, hf⟩ := sd_isC_some hf
    refine sj_cI (rest := [.ref v3]) (fun _ _ _ e => sj_runV (n := 1) (As := [.int a1]) (rest := [.ref v3]) (sX5_top l G a0 a1 h _ _ _ e) he17 rfl rfl rfl rfl q3202 q3204 qs89 q127 q3205 (by decide +kernel) rfl rfl ⟨Nat.le_of_ble_eq_true rfl, Nat.le_of_ble_eq_true rfl⟩ rfl (Nat.le_of_ble_eq_true rfl) dX5_hasTopSpring_17) hf (fun r4 h c hf => ?_)
    refine sj_zald hf dX5_hasTopSpring_20 (fun v5 hf => ?_)
    refine sj_ifeq 28 hf dX5_hasTopSpring_21 (by decide) (fun g21 hf => ?_) (fun g21 hf => ?_)
    · refine sj_iconst (v := 0) dX5_hasTopSpring_28 (by decide) ?_
      exact sj_zretC (o := sd_oI) (ty := .boolean) rfl hf rfl rfl rfl dX5_hasTopSpring_29
    · refine sj_iconst (v := 1) dX5_hasTopSpring_24 (by decide) ?_
      refine sj_goto 29 dX5_hasTopSpring_25 (by decide) ?_
      exact sj_zretC (o := sd_oI) (ty := .boolean) rfl hf rfl rfl rfl dX5_hasTopSpring_29
/-! SofaDigModel.left(I)I -/
abbrev cX5_left : ByteArray := prog_46_method_21_code
def yX5_left : MethodName := ⟨RX5, "left", "(I)I"⟩
def dkwX5_left_2 : List UInt8 := [184, 0, 106, 96, 61, 132, 3, 1, 167, 255, 207, 28, 172]
abbrev dktX5_left_2 : List UInt8 := dkwX5_left_2 ++ []
def dkwX5_left_1 : List UInt8 := [180, 0, 40, 16, 13, 16, 10, 27, 104, 96, 29, 96, 46, 46, 2, 159, 0, 7, 4, 167, 0, 4, 3]
abbrev dktX5_left_1 : List UInt8 := dkwX5_left_1 ++ dktX5_left_2
def dkwX5_left_0 : List UInt8 := [3, 61, 3, 62, 29, 42, 27, 182, 0, 74, 162, 0, 46, 28, 42, 180, 0, 20, 180, 0, 100, 42]
abbrev dktX5_left_0 : List UInt8 := dkwX5_left_0 ++ dktX5_left_1
theorem dksX5_left_0 : cX5_left.data.toList.drop 0 = dktX5_left_0 := by decide +kernel
theorem dksX5_left_1 : cX5_left.data.toList.drop 22 = dktX5_left_1 := dk_seg dksX5_left_0 22 rfl rfl
theorem dksX5_left_2 : cX5_left.data.toList.drop 45 = dktX5_left_2 := dk_seg dksX5_left_1 23 rfl rfl
theorem dX5_left_0 : decode cX5_left 0 = .ok (.iconst 0, 1) := dk_3 (dk_at dksX5_left_0 0 rfl rfl)
theorem dX5_left_1 : decode cX5_left 1 = .ok (.istore_n 2, 1) := dk_61 (dk_at dksX5_left_0 1 rfl rfl)
theorem dX5_left_2 : decode cX5_left 2 = .ok (.iconst 0, 1) := dk_3 (dk_at dksX5_left_0 2 rfl rfl)
theorem dX5_left_3 : decode cX5_left 3 = .ok (.istore_n 3, 1) := dk_62 (dk_at dksX5_left_0 3 rfl rfl)
theorem dX5_left_4 : decode cX5_left 4 = .ok (.iload_n 3, 1) := dk_29 (dk_at dksX5_left_0 4 rfl rfl)
theorem dX5_left_5 : decode cX5_left 5 = .ok (.aload_n 0, 1) := dk_42 (dk_at dksX5_left_0 5 rfl rfl)
theorem dX5_left_6 : decode cX5_left 6 = .ok (.iload_n 1, 1) := dk_27 (dk_at dksX5_left_0 6 rfl rfl)
theorem dX5_left_7 : decode cX5_left 7 = .ok (.invokevirtual 74, 3) := dk_182 0 74 (dk_at dksX5_left_0 7 rfl rfl)
theorem dX5_left_10 : decode cX5_left 10 = .ok (.if_icmp .ge 46, 3) := dk_162 0 46 (dk_at dksX5_left_0 10 rfl rfl)
theorem dX5_left_13 : decode cX5_left 13 = .ok (.iload_n 2, 1) := dk_28 (dk_at dksX5_left_0 13 rfl rfl)
theorem dX5_left_14 : decode cX5_left 14 = .ok (.aload_n 0, 1) := dk_42 (dk_at dksX5_left_0 14 rfl rfl)
theorem dX5_left_15 : decode cX5_left 15 = .ok (.getfield 20, 3) := dk_180 0 20 (dk_at dksX5_left_0 15 rfl rfl)
theorem dX5_left_18 : decode cX5_left 18 = .ok (.getfield 100, 3) := dk_180 0 100 (dk_at dksX5_left_0 18 rfl rfl)
theorem dX5_left_21 : decode cX5_left 21 = .ok (.aload_n 0, 1) := dk_42 (dk_at dksX5_left_0 21 rfl rfl)
theorem dX5_left_22 : decode cX5_left 22 = .ok (.getfield 40, 3) := dk_180 0 40 (dk_at dksX5_left_1 0 rfl rfl)
theorem dX5_left_25 : decode cX5_left 25 = .ok (.bipush 13, 2) := dk_16 13 (dk_at dksX5_left_1 3 rfl rfl)
theorem dX5_left_27 : decode cX5_left 27 = .ok (.bipush 10, 2) := dk_16 10 (dk_at dksX5_left_1 5 rfl rfl)
theorem dX5_left_29 : decode cX5_left 29 = .ok (.iload_n 1, 1) := dk_27 (dk_at dksX5_left_1 7 rfl rfl)
theorem dX5_left_30 : decode cX5_left 30 = .ok (.imul, 1) := dk_104 (dk_at dksX5_left_1 8 rfl rfl)
theorem dX5_left_31 : decode cX5_left 31 = .ok (.iadd, 1) := dk_96 (dk_at dksX5_left_1 9 rfl rfl)
theorem dX5_left_32 : decode cX5_left 32 = .ok (.iload_n 3, 1) := dk_29 (dk_at dksX5_left_1 10 rfl rfl)
theorem dX5_left_33 : decode cX5_left 33 = .ok (.iadd, 1) := dk_96 (dk_at dksX5_left_1 11 rfl rfl)
theorem dX5_left_34 : decode cX5_left 34 = .ok (.iaload, 1) := dk_46 (dk_at dksX5_left_1 12 rfl rfl)
theorem dX5_left_35 : decode cX5_left 35 = .ok (.iaload, 1) := dk_46 (dk_at dksX5_left_1 13 rfl rfl)
theorem dX5_left_36 : decode cX5_left 36 = .ok (.iconst (-1), 1) := dk_2 (dk_at dksX5_left_1 14 rfl rfl)
theorem dX5_left_37 : decode cX5_left 37 = .ok (.if_icmp .eq 7, 3) := dk_159 0 7 (dk_at dksX5_left_1 15 rfl rfl)
theorem dX5_left_40 : decode cX5_left 40 = .ok (.iconst 1, 1) := dk_4 (dk_at dksX5_left_1 18 rfl rfl)
theorem dX5_left_41 : decode cX5_left 41 = .ok (.goto 4, 3) := dk_167 0 4 (dk_at dksX5_left_1 19 rfl rfl)
theorem dX5_left_44 : decode cX5_left 44 = .ok (.iconst 0, 1) := dk_3 (dk_at dksX5_left_1 22 rfl rfl)
theorem dX5_left_45 : decode cX5_left 45 = .ok (.invokestatic 106, 3) := dk_184 0 106 (dk_at dksX5_left_2 0 rfl rfl)
theorem dX5_left_48 : decode cX5_left 48 = .ok (.iadd, 1) := dk_96 (dk_at dksX5_left_2 3 rfl rfl)
theorem dX5_left_49 : decode cX5_left 49 = .ok (.istore_n 2, 1) := dk_61 (dk_at dksX5_left_2 4 rfl rfl)
theorem dX5_left_50 : decode cX5_left 50 = .ok (.iinc 3 1, 3) := dk_132 3 1 (dk_at dksX5_left_2 5 rfl rfl)
theorem dX5_left_53 : decode cX5_left 53 = .ok (.goto (-49), 3) := dk_167 255 207 (dk_at dksX5_left_2 8 rfl rfl)
theorem dX5_left_56 : decode cX5_left 56 = .ok (.iload_n 2, 1) := dk_28 (dk_at dksX5_left_2 11 rfl rfl)
theorem dX5_left_57 : decode cX5_left 57 = .ok (.ireturn, 1) := dk_172 (dk_at dksX5_left_2 12 rfl rfl)
abbrev mX5_left : sd_Y := (yX5_left, cX5_left, 4, some (.int), none)
def fX5_left_b45 (G : sd_G) (k4 : Nat × Int32 × Int32 × Int32 → sd_M Int32) (w0 : Nat) (w1 : Int32) (w3 : Int32) (y0 : Int32) (y1 : Int32) : sd_M Int32 :=
  sd_bnd (fX5_one G y0) fun r7 =>
  sd_bnd (sd_ret (y1 + r7)) fun x8 =>
  sd_bnd (sd_ret (w3 + 1)) fun x9 =>
  k4 (w0, w1, x8, x9)
set_option maxHeartbeats 4000000 in
theorem sX5_left_b45 (l : Launch) (G : sd_G) (a0 : Nat) (a1 : Int32) (ρ : Int32) (h2 : sd_H) (cT : Nat × Nat) (k4 : Nat × Int32 × Int32 × Int32 → sd_M Int32) (Hk4 : ∀ (q : Nat × Int32 × Int32 × Int32) (h : sd_H) (c : Nat × Nat), k4 q h = some (ρ, c, h2) → sd_J mX5_left ((l, G), (1, 21), [.ref a0, .int a1], (sd_oI ρ, h2), cT) 4 [(0, .ref q.1), (1, .int q.2.1), (2, .int q.2.2.1), (3, .int q.2.2.2)] [] h c) (w0 : Nat) (w1 : Int32) (w3 : Int32) (y0 : Int32) (y1 : Int32) (h : sd_H) (c : Nat × Nat) (hf : fX5_left_b45 G k4 w0 w1 w3 y0 y1 h = some (ρ, c, h2)) : sd_J mX5_left ((l, G), (1, 21), [.ref a0, .int a1], (sd_oI ρ, h2), cT) 45 [(0, .ref w0), (1, .int w1), (3, .int w3)] [.int y0, .int y1] h c := by
  unfold fX5_left_b45 at hf
  refine sj_cI (rest := [.int y1]) (fun _ _ _ e => sj_runS (n := 1) (rest := [.int y1]) (sX5_one l G y0 h _ _ _ e) rfl rfl q3153 q3154 q127 q3155 (by decide +kernel) rfl ⟨Nat.le_of_ble_eq_true rfl, Nat.le_of_ble_eq_true rfl⟩ rfl (Nat.le_of_ble_eq_true rfl) dX5_left_45) hf (fun r7 h c hf => ?_)
  refine sj_iadd dX5_left_48 ?_
  refine sj_nameI hf (fun x8 hf => ?_)
  refine sj_istore_n [(2, .int x8), (0, .ref w0), (1, .int w1), (3, .int w3)] dX5_left_49 (by decide) rfl ?_
  refine sj_iincN 3 (fun x9 => [(3, .int x9), (2, .int x8), (0, .ref w0), (1, .int w1)]) 1 hf dX5_left_50 rfl (by decide) (by decide) (fun _ => rfl) (fun x9 hf => ?_)
  refine sj_goto 4 dX5_left_53 (by decide) ?_
  exact sj_loc [2, 3, 1, 0] rfl (Hk4 (w0, w1, x8, x9) _ _ hf)
def fX5_left_b4 (G : sd_G) (k4 : Nat × Int32 × Int32 × Int32 → sd_M Int32) (w0 : Nat) (w1 : Int32) (w2 : Int32) (w3 : Int32) : sd_M Int32 :=
  sd_bnd (sd_isC G 4 w0) fun _ =>
  sd_bnd (fX5_tall G w0 w1) fun r1 =>
  if r1 ≤ w3 then (
    sd_ret w2)
  else (
    sd_bnd (sd_getR G 4 4 w0) fun v2 =>
    sd_bnd (sd_getR G 5 10 v2) fun v3 =>
    sd_bnd (sd_getR G 4 15 w0) fun v4 =>
    sd_bnd (sd_aldI G 0 v4 (((13 : Int32) + ((10 : Int32) * w1)) + w3)) fun v5 =>
    sd_bnd (sd_aldI G 0 v3 v5) fun v6 =>
    if v6 = (-1) then (
      fX5_left_b45 G k4 w0 w1 w3 0 w2)
    else (
      fX5_left_b45 G k4 w0 w1 w3 1 w2))
set_option maxHeartbeats 4000000 in
theorem sX5_left_b4 (l : Launch) (G : sd_G) (a0 : Nat) (a1 : Int32) (ρ : Int32) (h2 : sd_H) (cT : Nat × Nat) (k4 : Nat × Int32 × Int32 × Int32 → sd_M Int32) (Hk4 : ∀ (q : Nat × Int32 × Int32 × Int32) (h : sd_H) (c : Nat × Nat), k4 q h = some (ρ, c, h2) → sd_J mX5_left ((l, G), (1, 21), [.ref a0, .int a1], (sd_oI ρ, h2), cT) 4 [(0, .ref q.1), (1, .int q.2.1), (2, .int q.2.2.1), (3, .int q.2.2.2)] [] h c) (w0 : Nat) (w1 : Int32) (w2 : Int32) (w3 : Int32) (h : sd_H) (c : Nat × Nat) (hf : fX5_left_b4 G k4 w0 w1 w2 w3 h = some (ρ, c, h2)) : sd_J mX5_left ((l, G), (1, 21), [.ref a0, .int a1], (sd_oI ρ, h2), cT) 4 [(0, .ref w0), (1, .int w1), (2, .int w2), (3, .int w3)] [] h c := by
  unfold fX5_left_b4 at hf
  refine sj_iload_n 3 dX5_left_4 rfl ?_
  refine sj_aload_n 0 dX5_left_5 rfl ?_
  refine sj_iload_n 1 dX5_left_6 rfl ?_
  obtain ⟨fs7, he7, hf⟩ := sd_isC_some hf
  refine sj_cI (rest := [.int w3]) (fun _ _ _ e => sj_runV (n := 1) (As := [.int w1]) (rest := [.int w3]) (sX5_tall l G w0 w1 h _ _ _ e) he7 rfl rfl rfl rfl q3178 q3180 qs85 q127 q3181 (by decide +kernel) rfl rfl ⟨Nat.le_of_ble_eq_true rfl, Nat.le_of_ble_eq_true rfl⟩ rfl (Nat.le_of_ble_eq_true rfl) dX5_left_7) hf (fun r1 h c hf => ?_)
  refine sj_icge 56 hf dX5_left_10 (by decide) (fun g10 hf => ?_) (fun g10 hf => ?_)
  · refine sj_iload_n 2 dX5_left_56 rfl ?_
    exact sj_iret (o := sd_oI) hf rfl rfl rfl dX5_left_57
  · refine sj_iload_n 2 dX5_left_13 rfl ?_
    refine sj_aload_n 0 dX5_left_14 rfl ?_
    refine sj_getR fdX5_20_4 hf dX5_left_15 (fun v2 hf => ?_)
    refine sj_getR fdX5_100_5 hf dX5_left_18 (fun v3 hf => ?_)
    refine sj_aload_n 0 dX5_left_21 rfl ?_
    refine sj_getR fdX5_40_4 hf dX5_left_22 (fun v4 hf => ?_)
    refine sj_bipush (v := 13) dX5_left_25 (by decide) ?_
    refine sj_bipush (v := 10) dX5_left_27 (by decide) ?_
    refine sj_iload_n 1 dX5_left_29 rfl ?_
    refine sj_imul dX5_left_30 ?_
    refine sj_iadd dX5_left_31 ?_
    refine sj_iload_n 3 dX5_left_32 rfl ?_
    refine sj_iadd dX5_left_33 ?_
    refine sj_iald hf dX5_left_34 (fun v5 hf => ?_)
    refine sj_iald hf dX5_left_35 (fun v6 hf => ?_)
    refine sj_iconst (v := (-1)) dX5_left_36 (by decide) ?_
    refine sj_iceq 44 hf dX5_left_37 (by decide) (fun g37 hf => ?_) (fun g37 hf => ?_)
    · refine sj_iconst (v := 0) dX5_left_44 (by decide) ?_
      exact sj_loc [0, 1, 3] rfl (sX5_left_b45 l G a0 a1 ρ h2 cT k4 Hk4 w0 w1 w3 0 w2 _ _ hf)
    · refine sj_iconst (v := 1) dX5_left_40 (by decide) ?_
      refine sj_goto 45 dX5_left_41 (by decide) ?_
      exact sj_loc [0, 1, 3] rfl (sX5_left_b45 l G a0 a1 ρ h2 cT k4 Hk4 w0 w1 w3 1 w2 _ _ hf)
theorem sX5_left_b4_loop (l : Launch) (G : sd_G) (a0 : Nat) (a1 : Int32) (ρ : Int32) (h2 : sd_H) (cT : Nat × Nat) (n : Nat) : ∀ (q : Nat × Int32 × Int32 × Int32) (h : sd_H) (c : Nat × Nat), sd_loop (fun k s => fX5_left_b4 G k s.1 s.2.1 s.2.2.1 s.2.2.2) n q h = some (ρ, c, h2) → sd_J mX5_left ((l, G), (1, 21), [.ref a0, .int a1], (sd_oI ρ, h2), cT) 4 [(0, .ref q.1), (1, .int q.2.1), (2, .int q.2.2.1), (3, .int q.2.2.2)] [] h c := by
  induction n with
  | zero => intro q h c hf; cases hf
  | succ n ih => intro q h c hf; exact sX5_left_b4 l G a0 a1 ρ h2 cT _ ih _ _ _ _ _ _ hf
def fX5_left (G : sd_G) (a0 : Nat) (a1 : Int32) : sd_M Int32 :=
  sd_loop (fun k s => fX5_left_b4 G k s.1 s.2.1 s.2.2.1 s.2.2.2) sd_FU (a0, a1, 0, 0)
set_option maxHeartbeats 4000000 in
theorem sX5_left (l : Launch) (G : sd_G) (a0 : Nat) (a1 : Int32) (h : sd_H) (ρ : Int32) (cT : Nat × Nat) (h2 : sd_H) (hf : fX5_left G a0 a1 h = some (ρ, cT, h2)) : sd_Met mX5_left ((l, G), (1, 21), [.ref a0, .int a1], (sd_oI ρ, h2), cT) h := by
  refine sd_entry (plainFor_of_name rfl) rfl (Nat.le_of_ble_eq_true rfl) ?_
  show sd_J mX5_left ((l, G), (1, 21), [.ref a0, .int a1], (sd_oI ρ, h2), cT) 0 [(0, .ref a0), (1, .int a1)] [] h cT
  unfold fX5_left at hf
  refine sj_iconst (v := 0) dX5_left_0 (by decide) ?_
  refine sj_istore_n [(2, .int 0), (0, .ref a0), (1, .int a1)] dX5_left_1 (by decide) rfl ?_
  refine sj_iconst (v := 0) dX5_left_2 (by decide) ?_
  refine sj_istore_n [(3, .int 0), (2, .int 0), (0, .ref a0), (1, .int a1)] dX5_left_3 (by decide) rfl ?_
  exact sj_loc [2, 3, 1, 0] rfl (sX5_left_b4_loop l G a0 a1 ρ h2 cT sd_FU (a0, a1, 0, 0) _ _ hf)
/-! SofaDigModel.findsLeft(I)I -/
abbrev cX5_findsLeft : ByteArray := prog_46_method_103_code
def yX5_findsLeft : MethodName := ⟨RX5, "findsLeft", "(I)I"⟩
def dkwX5_findsLeft_1 : List UInt8 := [182, 1, 139, 172]
abbrev dktX5_findsLeft_1 : List UInt8 := dkwX5_findsLeft_1 ++ []
def dkwX5_findsLeft_0 : List UInt8 := [42, 3, 181, 0, 58, 42, 27, 182, 0, 78, 153, 0, 11, 42, 27, 182, 1, 154, 167, 0, 8, 42, 4]
abbrev dktX5_findsLeft_0 : List UInt8 := dkwX5_findsLeft_0 ++ dktX5_findsLeft_1
theorem dksX5_findsLeft_0 : cX5_findsLeft.data.toList.drop 0 = dktX5_findsLeft_0 := by decide +kernel
theorem dksX5_findsLeft_1 : cX5_findsLeft.data.toList.drop 23 = dktX5_findsLeft_1 := dk_seg dksX5_findsLeft_0 23 rfl rfl
theorem dX5_findsLeft_0 : decode cX5_findsLeft 0 = .ok (.aload_n 0, 1) := dk_42 (dk_at dksX5_findsLeft_0 0 rfl rfl)
theorem dX5_findsLeft_1 : decode cX5_findsLeft 1 = .ok (.iconst 0, 1) := dk_3 (dk_at dksX5_findsLeft_0 1 rfl rfl)
theorem dX5_findsLeft_2 : decode cX5_findsLeft 2 = .ok (.putfield 58, 3) := dk_181 0 58 (dk_at dksX5_findsLeft_0 2 rfl rfl)
theorem dX5_findsLeft_5 : decode cX5_findsLeft 5 = .ok (.aload_n 0, 1) := dk_42 (dk_at dksX5_findsLeft_0 5 rfl rfl)
theorem dX5_findsLeft_6 : decode cX5_findsLeft 6 = .ok (.iload_n 1, 1) := dk_27 (dk_at dksX5_findsLeft_0 6 rfl rfl)
theorem dX5_findsLeft_7 : decode cX5_findsLeft 7 = .ok (.invokevirtual 78, 3) := dk_182 0 78 (dk_at dksX5_findsLeft_0 7 rfl rfl)
theorem dX5_findsLeft_10 : decode cX5_findsLeft 10 = .ok (.ifCond .eq 11, 3) := dk_153 0 11 (dk_at dksX5_findsLeft_0 10 rfl rfl)
theorem dX5_findsLeft_13 : decode cX5_findsLeft 13 = .ok (.aload_n 0, 1) := dk_42 (dk_at dksX5_findsLeft_0 13 rfl rfl)
theorem dX5_findsLeft_14 : decode cX5_findsLeft 14 = .ok (.iload_n 1, 1) := dk_27 (dk_at dksX5_findsLeft_0 14 rfl rfl)
theorem dX5_findsLeft_15 : decode cX5_findsLeft 15 = .ok (.invokevirtual 410, 3) := dk_182 1 154 (dk_at dksX5_findsLeft_0 15 rfl rfl)
theorem dX5_findsLeft_18 : decode cX5_findsLeft 18 = .ok (.goto 8, 3) := dk_167 0 8 (dk_at dksX5_findsLeft_0 18 rfl rfl)
theorem dX5_findsLeft_21 : decode cX5_findsLeft 21 = .ok (.aload_n 0, 1) := dk_42 (dk_at dksX5_findsLeft_0 21 rfl rfl)
theorem dX5_findsLeft_22 : decode cX5_findsLeft 22 = .ok (.iconst 1, 1) := dk_4 (dk_at dksX5_findsLeft_0 22 rfl rfl)
theorem dX5_findsLeft_23 : decode cX5_findsLeft 23 = .ok (.invokevirtual 395, 3) := dk_182 1 139 (dk_at dksX5_findsLeft_1 0 rfl rfl)
theorem dX5_findsLeft_26 : decode cX5_findsLeft 26 = .ok (.ireturn, 1) := dk_172 (dk_at dksX5_findsLeft_1 3 rfl rfl)
abbrev mX5_findsLeft : sd_Y := (yX5_findsLeft, cX5_findsLeft, 2, some (.int), none)
def fX5_findsLeft (G : sd_G) (a0 : Nat) (a1 : Int32) : sd_M Int32 :=
  sd_bnd (sd_put 4 0 .int a0 (.int 0)) fun _ =>
  sd_bnd (sd_isC G 4 a0) fun _ =>
  sd_bnd (fX5_isSeat G a0 a1) fun r1 =>
  if r1 = 0 then (
    sd_bnd (sd_isC G 4 a0) fun _ =>
    sd_bnd (fX5_no G a0 1) fun r2 =>
    sd_ret r2)
  else (
    sd_bnd (sd_isC G 4 a0) fun _ =>
    sd_bnd (fX5_left G a0 a1) fun r3 =>
    sd_ret r3)
set_option maxHeartbeats 4000000 in
theorem sX5_findsLeft (l : Launch) (G : sd_G) (a0 : Nat) (a1 : Int32) (h : sd_H) (ρ : Int32) (cT : Nat × Nat) (h2 : sd_H) (hf : fX5_findsLeft G a0 a1 h = some (ρ, cT, h2)) : sd_Met mX5_findsLeft ((l, G), (2, 44), [.ref a0, .int a1], (sd_oI ρ, h2), cT) h := by
  refine sd_entry (plainFor_of_name rfl) rfl (Nat.le_of_ble_eq_true rfl) ?_
  show sd_J mX5_findsLeft ((l, G), (2, 44), [.ref a0, .int a1], (sd_oI ρ, h2), cT) 0 [(0, .ref a0), (1, .int a1)] [] h cT
  unfold fX5_findsLeft at hf
  refine sj_aload_n 0 dX5_findsLeft_0 rfl ?_
  refine sj_iconst (v := 0) dX5_findsLeft_1 (by decide) ?_
  refine sj_put (fpX5_58_4 _ _) hf dX5_findsLeft_2 (fun h hf => ?_)
  refine sj_aload_n 0 dX5_findsLeft_5 rfl ?_
  refine sj_iload_n 1 dX5_findsLeft_6 rfl ?_
  obtain ⟨fs7, he7, hf⟩ := sd_isC_some hf
  refine sj_cI (rest := []) (fun _ _ _ e => sj_runV (n := 1) (As := [.int a1]) (rest := []) (sX5_isSeat l G a0 a1 h _ _ _ e) he7 rfl rfl rfl rfl q3174 q3176 qs84 q127 q3177 (by decide +kernel) rfl rfl ⟨Nat.le_of_ble_eq_true rfl, Nat.le_of_ble_eq_true rfl⟩ rfl (Nat.le_of_ble_eq_true rfl) dX5_findsLeft_7) hf (fun r1 h c hf => ?_)
  refine sj_ifeq 21 hf dX5_findsLeft_10 (by decide) (fun g10 hf => ?_) (fun g10 hf => ?_)
  · refine sj_aload_n 0 dX5_findsLeft_21 rfl ?_
    refine sj_iconst (v := 1) dX5_findsLeft_22 (by decide) ?_
    obtain ⟨fs23, he23, hf⟩ := sd_isC_some hf
    refine sj_cI (rest := []) (fun _ _ _ e => sj_runV (n := 1) (As := [.int 1]) (rest := []) (sX5_no l G a0 1 h _ _ _ e) he23 rfl rfl rfl rfl q2913 q2915 qs42 q127 q2916 (by decide +kernel) rfl rfl ⟨Nat.le_of_ble_eq_true rfl, Nat.le_of_ble_eq_true rfl⟩ rfl (Nat.le_of_ble_eq_true rfl) dX5_findsLeft_23) hf (fun r2 h c hf => ?_)
    exact sj_iret (o := sd_oI) hf rfl rfl rfl dX5_findsLeft_26
  · refine sj_aload_n 0 dX5_findsLeft_13 rfl ?_
    refine sj_iload_n 1 dX5_findsLeft_14 rfl ?_
    obtain ⟨fs15, he15, hf⟩ := sd_isC_some hf
    refine sj_cI (rest := []) (fun _ _ _ e => sj_runV (n := 1) (As := [.int a1]) (rest := []) (sX5_left l G a0 a1 h _ _ _ e) he15 rfl rfl rfl rfl q3218 q3220 qs90 q127 q3221 (by decide +kernel) rfl rfl ⟨Nat.le_of_ble_eq_true rfl, Nat.le_of_ble_eq_true rfl⟩ rfl (Nat.le_of_ble_eq_true rfl) dX5_findsLeft_15) hf (fun r3 h c hf => ?_)
    refine sj_goto 26 dX5_findsLeft_18 (by decide) ?_
    exact sj_iret (o := sd_oI) hf rfl rfl rfl dX5_findsLeft_26
/-! SofaDigModel.isFind(I)Z -/
abbrev cX5_isFind : ByteArray := prog_46_method_10_code
def yX5_isFind : MethodName := ⟨RX5, "isFind", "(I)Z"⟩
def dkwX5_isFind_0 : List UInt8 := [27, 3, 42, 180, 0, 20, 180, 0, 65, 4, 100, 184, 0, 61, 172]
abbrev dktX5_isFind_0 : List UInt8 := dkwX5_isFind_0 ++ []
theorem dksX5_isFind_0 : cX5_isFind.data.toList.drop 0 = dktX5_isFind_0 := by decide +kernel
theorem dX5_isFind_0 : decode cX5_isFind 0 = .ok (.iload_n 1, 1) := dk_27 (dk_at dksX5_isFind_0 0 rfl rfl)
theorem dX5_isFind_1 : decode cX5_isFind 1 = .ok (.iconst 0, 1) := dk_3 (dk_at dksX5_isFind_0 1 rfl rfl)
theorem dX5_isFind_2 : decode cX5_isFind 2 = .ok (.aload_n 0, 1) := dk_42 (dk_at dksX5_isFind_0 2 rfl rfl)
theorem dX5_isFind_3 : decode cX5_isFind 3 = .ok (.getfield 20, 3) := dk_180 0 20 (dk_at dksX5_isFind_0 3 rfl rfl)
theorem dX5_isFind_6 : decode cX5_isFind 6 = .ok (.getfield 65, 3) := dk_180 0 65 (dk_at dksX5_isFind_0 6 rfl rfl)
theorem dX5_isFind_9 : decode cX5_isFind 9 = .ok (.iconst 1, 1) := dk_4 (dk_at dksX5_isFind_0 9 rfl rfl)
theorem dX5_isFind_10 : decode cX5_isFind 10 = .ok (.isub, 1) := dk_100 (dk_at dksX5_isFind_0 10 rfl rfl)
theorem dX5_isFind_11 : decode cX5_isFind 11 = .ok (.invokestatic 61, 3) := dk_184 0 61 (dk_at dksX5_isFind_0 11 rfl rfl)
theorem dX5_isFind_14 : decode cX5_isFind 14 = .ok (.ireturn, 1) := dk_172 (dk_at dksX5_isFind_0 14 rfl rfl)
abbrev mX5_isFind : sd_Y := (yX5_isFind, cX5_isFind, 2, some (.boolean), none)
def fX5_isFind (G : sd_G) (a0 : Nat) (a1 : Int32) : sd_M Int32 :=
  sd_bnd (sd_getR G 4 4 a0) fun v1 =>
  sd_bnd (sd_getI G 5 6 v1) fun v2 =>
  sd_bnd (fX5_isIn G a1 0 (v2 - 1)) fun r3 =>
  sd_retN .boolean r3
set_option maxHeartbeats 4000000 in
theorem sX5_isFind (l : Launch) (G : sd_G) (a0 : Nat) (a1 : Int32) (h : sd_H) (ρ : Int32) (cT : Nat × Nat) (h2 : sd_H) (hf : fX5_isFind G a0 a1 h = some (ρ, cT, h2)) : sd_Met mX5_isFind ((l, G), (1, 22), [.ref a0, .int a1], (sd_oI ρ, h2), cT) h := by
  refine sd_entry (plainFor_of_name rfl) rfl (Nat.le_of_ble_eq_true rfl) ?_
  show sd_J mX5_isFind ((l, G), (1, 22), [.ref a0, .int a1], (sd_oI ρ, h2), cT) 0 [(0, .ref a0), (1, .int a1)] [] h cT
  unfold fX5_isFind at hf
  refine sj_iload_n 1 dX5_isFind_0 rfl ?_
  refine sj_iconst (v := 0) dX5_isFind_1 (by decide) ?_
  refine sj_aload_n 0 dX5_isFind_2 rfl ?_
  refine sj_getR fdX5_20_4 hf dX5_isFind_3 (fun v1 hf => ?_)
  refine sj_getI fdX5_65_5 hf dX5_isFind_6 (fun v2 hf => ?_)
  refine sj_iconst (v := 1) dX5_isFind_9 (by decide) ?_
  refine sj_isub dX5_isFind_10 ?_
  refine sj_cI (rest := []) (fun _ _ _ e => sj_runS (n := 3) (rest := []) (sX5_isIn l G a1 0 (v2 - 1) h _ _ _ e) rfl rfl q2921 q2922 q127 q2923 (by decide +kernel) rfl ⟨Nat.le_of_ble_eq_true rfl, Nat.le_of_ble_eq_true rfl⟩ rfl (Nat.le_of_ble_eq_true rfl) dX5_isFind_11) hf (fun r3 h c hf => ?_)
  exact sj_zret hf rfl rfl dX5_isFind_14
/-! SofaDigModel.isCoin(I)Z -/
abbrev cX5_isCoin : ByteArray := prog_46_method_104_code
def yX5_isCoin : MethodName := ⟨RX5, "isCoin", "(I)Z"⟩
def dkwX5_isCoin_1 : List UInt8 := [167, 0, 8, 42, 4, 182, 1, 148, 172]
abbrev dktX5_isCoin_1 : List UInt8 := dkwX5_isCoin_1 ++ []
def dkwX5_isCoin_0 : List UInt8 := [42, 3, 181, 0, 58, 42, 27, 182, 0, 176, 153, 0, 15, 42, 180, 0, 20, 180, 0, 119, 27, 51]
abbrev dktX5_isCoin_0 : List UInt8 := dkwX5_isCoin_0 ++ dktX5_isCoin_1
theorem dksX5_isCoin_0 : cX5_isCoin.data.toList.drop 0 = dktX5_isCoin_0 := by decide +kernel
theorem dksX5_isCoin_1 : cX5_isCoin.data.toList.drop 22 = dktX5_isCoin_1 := dk_seg dksX5_isCoin_0 22 rfl rfl
theorem dX5_isCoin_0 : decode cX5_isCoin 0 = .ok (.aload_n 0, 1) := dk_42 (dk_at dksX5_isCoin_0 0 rfl rfl)
theorem dX5_isCoin_1 : decode cX5_isCoin 1 = .ok (.iconst 0, 1) := dk_3 (dk_at dksX5_isCoin_0 1 rfl rfl)
theorem dX5_isCoin_2 : decode cX5_isCoin 2 = .ok (.putfield 58, 3) := dk_181 0 58 (dk_at dksX5_isCoin_0 2 rfl rfl)
theorem dX5_isCoin_5 : decode cX5_isCoin 5 = .ok (.aload_n 0, 1) := dk_42 (dk_at dksX5_isCoin_0 5 rfl rfl)
theorem dX5_isCoin_6 : decode cX5_isCoin 6 = .ok (.iload_n 1, 1) := dk_27 (dk_at dksX5_isCoin_0 6 rfl rfl)
theorem dX5_isCoin_7 : decode cX5_isCoin 7 = .ok (.invokevirtual 176, 3) := dk_182 0 176 (dk_at dksX5_isCoin_0 7 rfl rfl)
theorem dX5_isCoin_10 : decode cX5_isCoin 10 = .ok (.ifCond .eq 15, 3) := dk_153 0 15 (dk_at dksX5_isCoin_0 10 rfl rfl)
theorem dX5_isCoin_13 : decode cX5_isCoin 13 = .ok (.aload_n 0, 1) := dk_42 (dk_at dksX5_isCoin_0 13 rfl rfl)
theorem dX5_isCoin_14 : decode cX5_isCoin 14 = .ok (.getfield 20, 3) := dk_180 0 20 (dk_at dksX5_isCoin_0 14 rfl rfl)
theorem dX5_isCoin_17 : decode cX5_isCoin 17 = .ok (.getfield 119, 3) := dk_180 0 119 (dk_at dksX5_isCoin_0 17 rfl rfl)
theorem dX5_isCoin_20 : decode cX5_isCoin 20 = .ok (.iload_n 1, 1) := dk_27 (dk_at dksX5_isCoin_0 20 rfl rfl)
theorem dX5_isCoin_21 : decode cX5_isCoin 21 = .ok (.baload, 1) := dk_51 (dk_at dksX5_isCoin_0 21 rfl rfl)
theorem dX5_isCoin_22 : decode cX5_isCoin 22 = .ok (.goto 8, 3) := dk_167 0 8 (dk_at dksX5_isCoin_1 0 rfl rfl)
theorem dX5_isCoin_25 : decode cX5_isCoin 25 = .ok (.aload_n 0, 1) := dk_42 (dk_at dksX5_isCoin_1 3 rfl rfl)
theorem dX5_isCoin_26 : decode cX5_isCoin 26 = .ok (.iconst 1, 1) := dk_4 (dk_at dksX5_isCoin_1 4 rfl rfl)
theorem dX5_isCoin_27 : decode cX5_isCoin 27 = .ok (.invokevirtual 404, 3) := dk_182 1 148 (dk_at dksX5_isCoin_1 5 rfl rfl)
theorem dX5_isCoin_30 : decode cX5_isCoin 30 = .ok (.ireturn, 1) := dk_172 (dk_at dksX5_isCoin_1 8 rfl rfl)
abbrev mX5_isCoin : sd_Y := (yX5_isCoin, cX5_isCoin, 2, some (.boolean), none)
def fX5_isCoin (G : sd_G) (a0 : Nat) (a1 : Int32) : sd_M Int32 :=
  sd_bnd (sd_put 4 0 .int a0 (.int 0)) fun _ =>
  sd_bnd (sd_isC G 4 a0) fun _ =>
  sd_bnd (fX5_isFind G a0 a1) fun r1 =>
  if r1 = 0 then (
    sd_bnd (sd_isC G 4 a0) fun _ =>
    sd_bnd (fX5_isNot G a0 1) fun r2 =>
    sd_retN .boolean r2)
  else (
    sd_bnd (sd_getR G 4 4 a0) fun v3 =>
    sd_bnd (sd_getR G 5 7 v3) fun v4 =>
    sd_bnd (sd_aldI G 3 v4 a1) fun v5 =>
    sd_retN .boolean v5)
set_option maxHeartbeats 4000000 in
theorem sX5_isCoin (l : Launch) (G : sd_G) (a0 : Nat) (a1 : Int32) (h : sd_H) (ρ : Int32) (cT : Nat × Nat) (h2 : sd_H) (hf : fX5_isCoin G a0 a1 h = some (ρ, cT, h2)) : sd_Met mX5_isCoin ((l, G), (2, 43), [.ref a0, .int a1], (sd_oI ρ, h2), cT) h := by
  refine sd_entry (plainFor_of_name rfl) rfl (Nat.le_of_ble_eq_true rfl) ?_
  show sd_J mX5_isCoin ((l, G), (2, 43), [.ref a0, .int a1], (sd_oI ρ, h2), cT) 0 [(0, .ref a0), (1, .int a1)] [] h cT
  unfold fX5_isCoin at hf
  refine sj_aload_n 0 dX5_isCoin_0 rfl ?_
  refine sj_iconst (v := 0) dX5_isCoin_1 (by decide) ?_
  refine sj_put (fpX5_58_4 _ _) hf dX5_isCoin_2 (fun h hf => ?_)
  refine sj_aload_n 0 dX5_isCoin_5 rfl ?_
  refine sj_iload_n 1 dX5_isCoin_6 rfl ?_
  obtain ⟨fs7, he7, hf⟩ := sd_isC_some hf
  refine sj_cI (rest := []) (fun _ _ _ e => sj_runV (n := 1) (As := [.int a1]) (rest := []) (sX5_isFind l G a0 a1 h _ _ _ e) he7 rfl rfl rfl rfl q3226 q3228 qs91 q127 q3229 (by decide +kernel) rfl rfl ⟨Nat.le_of_ble_eq_true rfl, Nat.le_of_ble_eq_true rfl⟩ rfl (Nat.le_of_ble_eq_true rfl) dX5_isCoin_7) hf (fun r1 h c hf => ?_)
  refine sj_ifeq 25 hf dX5_isCoin_10 (by decide) (fun g10 hf => ?_) (fun g10 hf => ?_)
  · refine sj_aload_n 0 dX5_isCoin_25 rfl ?_
    refine sj_iconst (v := 1) dX5_isCoin_26 (by decide) ?_
    obtain ⟨fs27, he27, hf⟩ := sd_isC_some hf
    refine sj_cI (rest := []) (fun _ _ _ e => sj_runV (n := 1) (As := [.int 1]) (rest := []) (sX5_isNot l G a0 1 h _ _ _ e) he27 rfl rfl rfl rfl q3190 q3192 qs87 q127 q3193 (by decide +kernel) rfl rfl ⟨Nat.le_of_ble_eq_true rfl, Nat.le_of_ble_eq_true rfl⟩ rfl (Nat.le_of_ble_eq_true rfl) dX5_isCoin_27) hf (fun r2 h c hf => ?_)
    exact sj_zret hf rfl rfl dX5_isCoin_30
  · refine sj_aload_n 0 dX5_isCoin_13 rfl ?_
    refine sj_getR fdX5_20_4 hf dX5_isCoin_14 (fun v3 hf => ?_)
    refine sj_getR fdX5_119_5 hf dX5_isCoin_17 (fun v4 hf => ?_)
    refine sj_iload_n 1 dX5_isCoin_20 rfl ?_
    refine sj_zald hf dX5_isCoin_21 (fun v5 hf => ?_)
    refine sj_goto 30 dX5_isCoin_22 (by decide) ?_
    exact sj_zret hf rfl rfl dX5_isCoin_30
/-! SofaDigModel.isFound(I)Z -/
abbrev cX5_isFound : ByteArray := prog_46_method_105_code
def yX5_isFound : MethodName := ⟨RX5, "isFound", "(I)Z"⟩
def dkwX5_isFound_1 : List UInt8 := [158, 0, 7, 4, 167, 0, 12, 3, 167, 0, 8, 42, 4, 182, 1, 148, 172]
abbrev dktX5_isFound_1 : List UInt8 := dkwX5_isFound_1 ++ []
def dkwX5_isFound_0 : List UInt8 := [42, 3, 181, 0, 58, 42, 27, 182, 0, 176, 153, 0, 24, 42, 180, 0, 40, 17, 0, 173, 27, 96, 46]
abbrev dktX5_isFound_0 : List UInt8 := dkwX5_isFound_0 ++ dktX5_isFound_1
theorem dksX5_isFound_0 : cX5_isFound.data.toList.drop 0 = dktX5_isFound_0 := by decide +kernel
theorem dksX5_isFound_1 : cX5_isFound.data.toList.drop 23 = dktX5_isFound_1 := dk_seg dksX5_isFound_0 23 rfl rfl
theorem dX5_isFound_0 : decode cX5_isFound 0 = .ok (.aload_n 0, 1) := dk_42 (dk_at dksX5_isFound_0 0 rfl rfl)
theorem dX5_isFound_1 : decode cX5_isFound 1 = .ok (.iconst 0, 1) := dk_3 (dk_at dksX5_isFound_0 1 rfl rfl)
theorem dX5_isFound_2 : decode cX5_isFound 2 = .ok (.putfield 58, 3) := dk_181 0 58 (dk_at dksX5_isFound_0 2 rfl rfl)
theorem dX5_isFound_5 : decode cX5_isFound 5 = .ok (.aload_n 0, 1) := dk_42 (dk_at dksX5_isFound_0 5 rfl rfl)
theorem dX5_isFound_6 : decode cX5_isFound 6 = .ok (.iload_n 1, 1) := dk_27 (dk_at dksX5_isFound_0 6 rfl rfl)
theorem dX5_isFound_7 : decode cX5_isFound 7 = .ok (.invokevirtual 176, 3) := dk_182 0 176 (dk_at dksX5_isFound_0 7 rfl rfl)
theorem dX5_isFound_10 : decode cX5_isFound 10 = .ok (.ifCond .eq 24, 3) := dk_153 0 24 (dk_at dksX5_isFound_0 10 rfl rfl)
theorem dX5_isFound_13 : decode cX5_isFound 13 = .ok (.aload_n 0, 1) := dk_42 (dk_at dksX5_isFound_0 13 rfl rfl)
theorem dX5_isFound_14 : decode cX5_isFound 14 = .ok (.getfield 40, 3) := dk_180 0 40 (dk_at dksX5_isFound_0 14 rfl rfl)
theorem dX5_isFound_17 : decode cX5_isFound 17 = .ok (.sipush 173, 3) := dk_17 0 173 (dk_at dksX5_isFound_0 17 rfl rfl)
theorem dX5_isFound_20 : decode cX5_isFound 20 = .ok (.iload_n 1, 1) := dk_27 (dk_at dksX5_isFound_0 20 rfl rfl)
theorem dX5_isFound_21 : decode cX5_isFound 21 = .ok (.iadd, 1) := dk_96 (dk_at dksX5_isFound_0 21 rfl rfl)
theorem dX5_isFound_22 : decode cX5_isFound 22 = .ok (.iaload, 1) := dk_46 (dk_at dksX5_isFound_0 22 rfl rfl)
theorem dX5_isFound_23 : decode cX5_isFound 23 = .ok (.ifCond .le 7, 3) := dk_158 0 7 (dk_at dksX5_isFound_1 0 rfl rfl)
theorem dX5_isFound_26 : decode cX5_isFound 26 = .ok (.iconst 1, 1) := dk_4 (dk_at dksX5_isFound_1 3 rfl rfl)
theorem dX5_isFound_27 : decode cX5_isFound 27 = .ok (.goto 12, 3) := dk_167 0 12 (dk_at dksX5_isFound_1 4 rfl rfl)
theorem dX5_isFound_30 : decode cX5_isFound 30 = .ok (.iconst 0, 1) := dk_3 (dk_at dksX5_isFound_1 7 rfl rfl)
theorem dX5_isFound_31 : decode cX5_isFound 31 = .ok (.goto 8, 3) := dk_167 0 8 (dk_at dksX5_isFound_1 8 rfl rfl)
theorem dX5_isFound_34 : decode cX5_isFound 34 = .ok (.aload_n 0, 1) := dk_42 (dk_at dksX5_isFound_1 11 rfl rfl)
theorem dX5_isFound_35 : decode cX5_isFound 35 = .ok (.iconst 1, 1) := dk_4 (dk_at dksX5_isFound_1 12 rfl rfl)
theorem dX5_isFound_36 : decode cX5_isFound 36 = .ok (.invokevirtual 404, 3) := dk_182 1 148 (dk_at dksX5_isFound_1 13 rfl rfl)
theorem dX5_isFound_39 : decode cX5_isFound 39 = .ok (.ireturn, 1) := dk_172 (dk_at dksX5_isFound_1 16 rfl rfl)
abbrev mX5_isFound : sd_Y := (yX5_isFound, cX5_isFound, 2, some (.boolean), none)
def fX5_isFound (G : sd_G) (a0 : Nat) (a1 : Int32) : sd_M Int32 :=
  sd_bnd (sd_put 4 0 .int a0 (.int 0)) fun _ =>
  sd_bnd (sd_isC G 4 a0) fun _ =>
  sd_bnd (fX5_isFind G a0 a1) fun r1 =>
  if r1 = 0 then (
    sd_bnd (sd_isC G 4 a0) fun _ =>
    sd_bnd (fX5_isNot G a0 1) fun r2 =>
    sd_retN .boolean r2)
  else (
    sd_bnd (sd_getR G 4 15 a0) fun v3 =>
    sd_bnd (sd_aldI G 0 v3 ((173 : Int32) + a1)) fun v4 =>
    if v4 ≤ 0 then (
      sd_ret 0)
    else (
      sd_ret 1))
set_option maxHeartbeats 4000000 in
theorem sX5_isFound (l : Launch) (G : sd_G) (a0 : Nat) (a1 : Int32) (h : sd_H) (ρ : Int32) (cT : Nat × Nat) (h2 : sd_H) (hf : fX5_isFound G a0 a1 h = some (ρ, cT, h2)) : sd_Met mX5_isFound ((l, G), (2, 43), [.ref a0, .int a1], (sd_oI ρ, h2), cT) h := by
  refine sd_entry (plainFor_of_name rfl) rfl (Nat.le_of_ble_eq_true rfl) ?_
  show sd_J mX5_isFound ((l, G), (2, 43), [.ref a0, .int a1], (sd_oI ρ, h2), cT) 0 [(0, .ref a0), (1, .int a1)] [] h cT
  unfold fX5_isFound at hf
  refine sj_aload_n 0 dX5_isFound_0 rfl ?_
  refine sj_iconst (v := 0) dX5_isFound_1 (by decide) ?_
  refine sj_put (fpX5_58_4 _ _) hf dX5_isFound_2 (fun h hf => ?_)
  refine sj_aload_n 0 dX5_isFound_5 rfl ?_
  refine sj_iload_n 1 dX5_isFound_6 rfl ?_
  obtain ⟨fs7, he7, hf⟩ := sd_isC_some hf
  refine sj_cI (rest := []) (fun _ _ _ e => sj_runV (n := 1) (As := [.int a1]) (rest := []) (sX5_isFind l G a0 a1 h _ _ _ e) he7 rfl rfl rfl rfl q3226 q3228 qs91 q127 q3229 (by decide +kernel) rfl rfl ⟨Nat.le_of_ble_eq_true rfl, Nat.le_of_ble_eq_true rfl⟩ rfl (Nat.le_of_ble_eq_true rfl) dX5_isFound_7) hf (fun r1 h c hf => ?_)
  refine sj_ifeq 34 hf dX5_isFound_10 (by decide) (fun g10 hf => ?_) (fun g10 hf => ?_)
  · refine sj_aload_n 0 dX5_isFound_34 rfl ?_
    refine sj_iconst (v := 1) dX5_isFound_35 (by decide) ?_
    obtain ⟨fs36, he36, hf⟩ := sd_isC_some hf
    refine sj_cI (rest := []) (fun _ _ _ e => sj_runV (n := 1) (As := [.int 1]) (rest := []) (sX5_isNot l G a0 1 h _ _ _ e) he36 rfl rfl rfl rfl q3190 q3192 qs87 q127 q3193 (by decide +kernel) rfl rfl ⟨Nat.le_of_ble_eq_true rfl, Nat.le_of_ble_eq_true rfl⟩ rfl (Nat.le_of_ble_eq_true rfl) dX5_isFound_36) hf (fun r2 h c hf => ?_)
    exact sj_zret hf rfl rfl dX5_isFound_39
  · refine sj_aload_n 0 dX5_isFound_13 rfl ?_
    refine sj_getR fdX5_40_4 hf dX5_isFound_14 (fun v3 hf => ?_)
    refine sj_sipush (v := 173) dX5_isFound_17 (by decide) ?_
    refine sj_iload_n 1 dX5_isFound_20 rfl ?_
    refine sj_iadd dX5_isFound_21 ?_
    refine sj_iald hf dX5_isFound_22 (fun v4 hf => ?_)
    refine sj_ifle 30 hf dX5_isFound_23 (by decide) (fun g23 hf => ?_) (fun g23 hf => ?_)
    · refine sj_iconst (v := 0) dX5_isFound_30 (by decide) ?_
      refine sj_goto 39 dX5_isFound_31 (by decide) ?_
      exact sj_zretC (o := sd_oI) (ty := .boolean) rfl hf rfl rfl rfl dX5_isFound_39
    · refine sj_iconst (v := 1) dX5_isFound_26 (by decide) ?_
      refine sj_goto 39 dX5_isFound_27 (by decide) ?_
      exact sj_zretC (o := sd_oI) (ty := .boolean) rfl hf rfl rfl rfl dX5_isFound_39
/-! SofaDigModel.sure(I)Z -/
abbrev cX5_sure : ByteArray := prog_46_method_24_code
def yX5_sure : MethodName := ⟨RX5, "sure", "(I)Z"⟩
def dkwX5_sure_0 : List UInt8 := [42, 180, 0, 40, 17, 0, 173, 27, 96, 46, 5, 160, 0, 7, 4, 167, 0, 4, 3, 172]
abbrev dktX5_sure_0 : List UInt8 := dkwX5_sure_0 ++ []
theorem dksX5_sure_0 : cX5_sure.data.toList.drop 0 = dktX5_sure_0 := by decide +kernel
theorem dX5_sure_0 : decode cX5_sure 0 = .ok (.aload_n 0, 1) := dk_42 (dk_at dksX5_sure_0 0 rfl rfl)
theorem dX5_sure_1 : decode cX5_sure 1 = .ok (.getfield 40, 3) := dk_180 0 40 (dk_at dksX5_sure_0 1 rfl rfl)
theorem dX5_sure_4 : decode cX5_sure 4 = .ok (.sipush 173, 3) := dk_17 0 173 (dk_at dksX5_sure_0 4 rfl rfl)
theorem dX5_sure_7 : decode cX5_sure 7 = .ok (.iload_n 1, 1) := dk_27 (dk_at dksX5_sure_0 7 rfl rfl)
theorem dX5_sure_8 : decode cX5_sure 8 = .ok (.iadd, 1) := dk_96 (dk_at dksX5_sure_0 8 rfl rfl)
theorem dX5_sure_9 : decode cX5_sure 9 = .ok (.iaload, 1) := dk_46 (dk_at dksX5_sure_0 9 rfl rfl)
theorem dX5_sure_10 : decode cX5_sure 10 = .ok (.iconst 2, 1) := dk_5 (dk_at dksX5_sure_0 10 rfl rfl)
theorem dX5_sure_11 : decode cX5_sure 11 = .ok (.if_icmp .ne 7, 3) := dk_160 0 7 (dk_at dksX5_sure_0 11 rfl rfl)
theorem dX5_sure_14 : decode cX5_sure 14 = .ok (.iconst 1, 1) := dk_4 (dk_at dksX5_sure_0 14 rfl rfl)
theorem dX5_sure_15 : decode cX5_sure 15 = .ok (.goto 4, 3) := dk_167 0 4 (dk_at dksX5_sure_0 15 rfl rfl)
theorem dX5_sure_18 : decode cX5_sure 18 = .ok (.iconst 0, 1) := dk_3 (dk_at dksX5_sure_0 18 rfl rfl)
theorem dX5_sure_19 : decode cX5_sure 19 = .ok (.ireturn, 1) := dk_172 (dk_at dksX5_sure_0 19 rfl rfl)
abbrev mX5_sure : sd_Y := (yX5_sure, cX5_sure, 2, some (.boolean), none)
def fX5_sure (G : sd_G) (a0 : Nat) (a1 : Int32) : sd_M Int32 :=
  sd_bnd (sd_getR G 4 15 a0) fun v1 =>
  sd_bnd (sd_aldI G 0 v1 ((173 : Int32) + a1)) fun v2 =>
  if v2 = 2 then (
    sd_ret 1)
  else (
    sd_ret 0)
set_option maxHeartbeats 4000000 in
theorem sX5_sure (l : Launch) (G : sd_G) (a0 : Nat) (a1 : Int32) (h : sd_H) (ρ : Int32) (cT : Nat × Nat) (h2 : sd_H) (hf : fX5_sure G a0 a1 h = some (ρ, cT, h2)) : sd_Met mX5_sure ((l, G), (0, 0), [.ref a0, .int a1], (sd_oI ρ, h2), cT) h := by
  refine sd_entry (plainFor_of_name rfl) rfl (Nat.le_of_ble_eq_true rfl) ?_
  show sd_J mX5_sure ((l, G), (0, 0), [.ref a0, .int a1], (sd_oI ρ, h2), cT) 0 [(0, .ref a0), (1, .int a1)] [] h cT
  unfold fX5_sure at hf
  refine sj_aload_n 0 dX5_sure_0 rfl ?_
  refine sj_getR fdX5_40_4 hf dX5_sure_1 (fun v1 hf => ?_)
  refine sj_sipush (v := 173) dX5_sure_4 (by decide) ?_
  refine sj_iload_n 1 dX5_sure_7 rfl ?_
  refine sj_iadd dX5_sure_8 ?_
  refine sj_iald hf dX5_sure_9 (fun v2 hf => ?_)
  refine sj_iconst (v := 2) dX5_sure_10 (by decide) ?_
  refine sj_icne 18 hf dX5_sure_11 (by decide) (fun g11 hf => ?_) (fun g11 hf => ?_)
  · refine sj_iconst (v := 0) dX5_sure_18 (by decide) ?_
    exact sj_zretC (o := sd_oI) (ty := .boolean) rfl hf rfl rfl rfl dX5_sure_19
  · refine sj_iconst (v := 1) dX5_sure_14 (by decide) ?_
    refine sj_goto 19 dX5_sure_15 (by decide) ?_
    exact sj_zretC (o := sd_oI) (ty := .boolean) rfl hf rfl rfl rfl dX5_sure_19
/-! SofaDigModel.isSure(I)Z -/
abbrev cX5_isSure : ByteArray := prog_46_method_106_code
def yX5_isSure : MethodName := ⟨RX5, "isSure", "(I)Z"⟩
def dkwX5_isSure_2 : List UInt8 := [153, 0, 7, 4, 167, 0, 4, 3, 172]
abbrev dktX5_isSure_2 : List UInt8 := dkwX5_isSure_2 ++ []
def dkwX5_isSure_1 : List UInt8 := [154, 0, 7, 5, 167, 0, 4, 3, 181, 0, 58, 42, 180, 0, 58, 154, 0, 15, 42, 27, 182, 0, 113]
abbrev dktX5_isSure_1 : List UInt8 := dkwX5_isSure_1 ++ dktX5_isSure_2
def dkwX5_isSure_0 : List UInt8 := [42, 42, 27, 182, 0, 176, 154, 0, 7, 4, 167, 0, 21, 42, 180, 0, 40, 17, 0, 173, 27, 96, 46]
abbrev dktX5_isSure_0 : List UInt8 := dkwX5_isSure_0 ++ dktX5_isSure_1
theorem dksX5_isSure_0 : cX5_isSure.data.toList.drop 0 = dktX5_isSure_0 := by decide +kernel
theorem dksX5_isSure_1 : cX5_isSure.data.toList.drop 23 = dktX5_isSure_1 := dk_seg dksX5_isSure_0 23 rfl rfl
theorem dksX5_isSure_2 : cX5_isSure.data.toList.drop 46 = dktX5_isSure_2 := dk_seg dksX5_isSure_1 23 rfl rfl
theorem dX5_isSure_0 : decode cX5_isSure 0 = .ok (.aload_n 0, 1) := dk_42 (dk_at dksX5_isSure_0 0 rfl rfl)
theorem dX5_isSure_1 : decode cX5_isSure 1 = .ok (.aload_n 0, 1) := dk_42 (dk_at dksX5_isSure_0 1 rfl rfl)
theorem dX5_isSure_2 : decode cX5_isSure 2 = .ok (.iload_n 1, 1) := dk_27 (dk_at dksX5_isSure_0 2 rfl rfl)
theorem dX5_isSure_3 : decode cX5_isSure 3 = .ok (.invokevirtual 176, 3) := dk_182 0 176 (dk_at dksX5_isSure_0 3 rfl rfl)
theorem dX5_isSure_6 : decode cX5_isSure 6 = .ok (.ifCond .ne 7, 3) := dk_154 0 7 (dk_at dksX5_isSure_0 6 rfl rfl)
theorem dX5_isSure_9 : decode cX5_isSure 9 = .ok (.iconst 1, 1) := dk_4 (dk_at dksX5_isSure_0 9 rfl rfl)
theorem dX5_isSure_10 : decode cX5_isSure 10 = .ok (.goto 21, 3) := dk_167 0 21 (dk_at dksX5_isSure_0 10 rfl rfl)
theorem dX5_isSure_13 : decode cX5_isSure 13 = .ok (.aload_n 0, 1) := dk_42 (dk_at dksX5_isSure_0 13 rfl rfl)
theorem dX5_isSure_14 : decode cX5_isSure 14 = .ok (.getfield 40, 3) := dk_180 0 40 (dk_at dksX5_isSure_0 14 rfl rfl)
theorem dX5_isSure_17 : decode cX5_isSure 17 = .ok (.sipush 173, 3) := dk_17 0 173 (dk_at dksX5_isSure_0 17 rfl rfl)
theorem dX5_isSure_20 : decode cX5_isSure 20 = .ok (.iload_n 1, 1) := dk_27 (dk_at dksX5_isSure_0 20 rfl rfl)
theorem dX5_isSure_21 : decode cX5_isSure 21 = .ok (.iadd, 1) := dk_96 (dk_at dksX5_isSure_0 21 rfl rfl)
theorem dX5_isSure_22 : decode cX5_isSure 22 = .ok (.iaload, 1) := dk_46 (dk_at dksX5_isSure_0 22 rfl rfl)
theorem dX5_isSure_23 : decode cX5_isSure 23 = .ok (.ifCond .ne 7, 3) := dk_154 0 7 (dk_at dksX5_isSure_1 0 rfl rfl)
theorem dX5_isSure_26 : decode cX5_isSure 26 = .ok (.iconst 2, 1) := dk_5 (dk_at dksX5_isSure_1 3 rfl rfl)
theorem dX5_isSure_27 : decode cX5_isSure 27 = .ok (.goto 4, 3) := dk_167 0 4 (dk_at dksX5_isSure_1 4 rfl rfl)
theorem dX5_isSure_30 : decode cX5_isSure 30 = .ok (.iconst 0, 1) := dk_3 (dk_at dksX5_isSure_1 7 rfl rfl)
theorem dX5_isSure_31 : decode cX5_isSure 31 = .ok (.putfield 58, 3) := dk_181 0 58 (dk_at dksX5_isSure_1 8 rfl rfl)
theorem dX5_isSure_34 : decode cX5_isSure 34 = .ok (.aload_n 0, 1) := dk_42 (dk_at dksX5_isSure_1 11 rfl rfl)
theorem dX5_isSure_35 : decode cX5_isSure 35 = .ok (.getfield 58, 3) := dk_180 0 58 (dk_at dksX5_isSure_1 12 rfl rfl)
theorem dX5_isSure_38 : decode cX5_isSure 38 = .ok (.ifCond .ne 15, 3) := dk_154 0 15 (dk_at dksX5_isSure_1 15 rfl rfl)
theorem dX5_isSure_41 : decode cX5_isSure 41 = .ok (.aload_n 0, 1) := dk_42 (dk_at dksX5_isSure_1 18 rfl rfl)
theorem dX5_isSure_42 : decode cX5_isSure 42 = .ok (.iload_n 1, 1) := dk_27 (dk_at dksX5_isSure_1 19 rfl rfl)
theorem dX5_isSure_43 : decode cX5_isSure 43 = .ok (.invokevirtual 113, 3) := dk_182 0 113 (dk_at dksX5_isSure_1 20 rfl rfl)
theorem dX5_isSure_46 : decode cX5_isSure 46 = .ok (.ifCond .eq 7, 3) := dk_153 0 7 (dk_at dksX5_isSure_2 0 rfl rfl)
theorem dX5_isSure_49 : decode cX5_isSure 49 = .ok (.iconst 1, 1) := dk_4 (dk_at dksX5_isSure_2 3 rfl rfl)
theorem dX5_isSure_50 : decode cX5_isSure 50 = .ok (.goto 4, 3) := dk_167 0 4 (dk_at dksX5_isSure_2 4 rfl rfl)
theorem dX5_isSure_53 : decode cX5_isSure 53 = .ok (.iconst 0, 1) := dk_3 (dk_at dksX5_isSure_2 7 rfl rfl)
theorem dX5_isSure_54 : decode cX5_isSure 54 = .ok (.ireturn, 1) := dk_172 (dk_at dksX5_isSure_2 8 rfl rfl)
abbrev mX5_isSure : sd_Y := (yX5_isSure, cX5_isSure, 2, some (.boolean), none)
def fX5_isSure_b31 (G : sd_G) (w0 : Nat) (w1 : Int32) (y0 : Int32) (y1 : Nat) : sd_M Int32 :=
  sd_bnd (sd_put 4 0 .int y1 (.int y0)) fun _ =>
  sd_bnd (sd_getI G 4 0 w0) fun v4 =>
  if v4 = 0 then (
    sd_bnd (sd_isC G 4 w0) fun _ =>
    sd_bnd (fX5_sure G w0 w1) fun r5 =>
    if r5 = 0 then (
      sd_ret 0)
    else (
      sd_ret 1))
  else (
    sd_ret 0)
set_option maxHeartbeats 4000000 in
theorem sX5_isSure_b31 (l : Launch) (G : sd_G) (a0 : Nat) (a1 : Int32) (ρ : Int32) (h2 : sd_H) (cT : Nat × Nat) (w0 : Nat) (w1 : Int32) (y0 : Int32) (y1 : Nat) (h : sd_H) (c : Nat × Nat) (hf : fX5_isSure_b31 G w0 w1 y0 y1 h = some (ρ, c, h2)) : sd_J mX5_isSure ((l, G), (2, 43), [.ref a0, .int a1], (sd_oI ρ, h2), cT) 31 [(0, .ref w0), (1, .int w1)] [.int y0, .ref y1] h c := by
  unfold fX5_isSure_b31 at hf
  refine sj_put (fpX5_58_4 _ _) hf dX5_isSure_31 (fun h hf => ?_)
  refine sj_aload_n 0 dX5_isSure_34 rfl ?_
  refine sj_getI fdX5_58_4 hf dX5_isSure_35 (fun v4 hf => ?_)
  refine sj_ifne 53 hf dX5_isSure_38 (by decide) (fun g38 hf => ?_) (fun g38 hf => ?_)
  · refine sj_iconst (v := 0) dX5_isSure_53 (by decide) ?_
    exact sj_zretC (o := sd_oI) (ty := .boolean) rfl hf rfl rfl rfl dX5_isSure_54
  · refine sj_aload_n 0 dX5_isSure_41 rfl ?_
    refine sj_iload_n 1 dX5_isSure_42 rfl ?_
    obtain ⟨fs43, he43, hf⟩ := sd_isC_some hf
    refine sj_cI (rest := []) (fun _ _ _ e => sj_runV (n := 1) (As := [.int w1]) (rest := []) (sX5_sure l G w0 w1 h _ _ _ e) he43 rfl rfl rfl rfl q3238 q3240 qs92 q127 q3241 (by decide +kernel) rfl rfl ⟨Nat.le_of_ble_eq_true rfl, Nat.le_of_ble_eq_true rfl⟩ rfl (Nat.le_of_ble_eq_true rfl) dX5_isSure_43) hf (fun r5 h c hf => ?_)
    refine sj_ifeq 53 hf dX5_isSure_46 (by decide) (fun g46 hf => ?_) (fun g46 hf => ?_)
    · refine sj_iconst (v := 0) dX5_isSure_53 (by decide) ?_
      exact sj_zretC (o := sd_oI) (ty := .boolean) rfl hf rfl rfl rfl dX5_isSure_54
    · refine sj_iconst (v := 1) dX5_isSure_49 (by decide) ?_
      refine sj_goto 54 dX5_isSure_50 (by decide) ?_
      exact sj_zretC (o := sd_oI) (ty := .boolean) rfl hf rfl rfl rfl dX5_isSure_54
def fX5_isSure (G : sd_G) (a0 : Nat) (a1 : Int32) : sd_M Int32 :=
  sd_bnd (sd_isC G 4 a0) fun _ =>
  sd_bnd (fX5_isFind G a0 a1) fun r1 =>
  if r1 = 0 then (
    fX5_isSure_b31 G a0 a1 1 a0)
  else (
    sd_bnd (sd_getR G 4 15 a0) fun v2 =>
    sd_bnd (sd_aldI G 0 v2 ((173 : Int32) + a1)) fun v3 =>
    if v3 = 0 then (
      fX5_isSure_b31 G a0 a1 2 a0)
    else (
      fX5_isSure_b31 G a0 a1 0 a0))
set_option maxHeartbeats 4000000 in
theorem sX5_isSure (l : Launch) (G : sd_G) (a0 : Nat) (a1 : Int32) (h : sd_H) (ρ : Int32) (cT : Nat × Nat) (h2 : sd_H) (hf : fX5_isSure G a0 a1 h = some (ρ, cT, h2)) : sd_Met mX5_isSure ((l, G), (2, 43), [.ref a0, .int a1], (sd_oI ρ, h2), cT) h := by
  refine sd_entry (plainFor_of_name rfl) rfl (Nat.le_of_ble_eq_true rfl) ?_
  show sd_J mX5_isSure ((l, G), (2, 43), [.ref a0, .int a1], (sd_oI ρ, h2), cT) 0 [(0, .ref a0), (1, .int a1)] [] h cT
  unfold fX5_isSure at hf
  refine sj_aload_n 0 dX5_isSure_0 rfl ?_
  refine sj_aload_n 0 dX5_isSure_1 rfl ?_
  refine sj_iload_n 1 dX5_isSure_2 rfl ?_
  obtain ⟨fs3, he3, hf⟩ := sd_isC_some hf
  refine sj_cI (rest := [.ref a0]) (fun _ _ _ e => sj_runV (n := 1) (As := [.int a1]) (rest := [.ref a0]) (sX5_isFind l G a0 a1 h _ _ _ e) he3 rfl rfl rfl rfl q3226 q3228 qs91 q127 q3229 (by decide +kernel) rfl rfl ⟨Nat.le_of_ble_eq_true rfl, Nat.le_of_ble_eq_true rfl⟩ rfl (Nat.le_of_ble_eq_true rfl) dX5_isSure_3) hf (fun r1 h c hf => ?_)
  refine sj_ifne 13 hf dX5_isSure_6 (by decide) (fun g6 hf => ?_) (fun g6 hf => ?_)
  · refine sj_aload_n 0 dX5_isSure_13 rfl ?_
    refine sj_getR fdX5_40_4 hf dX5_isSure_14 (fun v2 hf => ?_)
    refine sj_sipush (v := 173) dX5_isSure_17 (by decide) ?_
    refine sj_iload_n 1 dX5_isSure_20 rfl ?_
    refine sj_iadd dX5_isSure_21 ?_
    refine sj_iald hf dX5_isSure_22 (fun v3 hf => ?_)
    refine sj_ifne 30 hf dX5_isSure_23 (by decide) (fun g23 hf => ?_) (fun g23 hf => ?_)
    · refine sj_iconst (v := 0) dX5_isSure_30 (by decide) ?_
      exact sj_loc [0, 1] rfl (sX5_isSure_b31 l G a0 a1 ρ h2 cT a0 a1 0 a0 _ _ hf)
    · refine sj_iconst (v := 2) dX5_isSure_26 (by decide) ?_
      refine sj_goto 31 dX5_isSure_27 (by decide) ?_
      exact sj_loc [0, 1] rfl (sX5_isSure_b31 l G a0 a1 ρ h2 cT a0 a1 2 a0 _ _ hf)
  · refine sj_iconst (v := 1) dX5_isSure_9 (by decide) ?_
    refine sj_goto 31 dX5_isSure_10 (by decide) ?_
    exact sj_loc [0, 1] rfl (sX5_isSure_b31 l G a0 a1 ρ h2 cT a0 a1 1 a0 _ _ hf)
/-! SofaDigModel.stratum(I)I -/
abbrev cX5_stratum : ByteArray := prog_46_method_25_code
def yX5_stratum : MethodName := ⟨RX5, "stratum", "(I)I"⟩
def dkwX5_stratum_0 : List UInt8 := [42, 180, 0, 20, 180, 0, 110, 27, 46, 16, 10, 112, 172]
abbrev dktX5_stratum_0 : List UInt8 := dkwX5_stratum_0 ++ []
theorem dksX5_stratum_0 : cX5_stratum.data.toList.drop 0 = dktX5_stratum_0 := by decide +kernel
theorem dX5_stratum_0 : decode cX5_stratum 0 = .ok (.aload_n 0, 1) := dk_42 (dk_at dksX5_stratum_0 0 rfl rfl)
theorem dX5_stratum_1 : decode cX5_stratum 1 = .ok (.getfield 20, 3) := dk_180 0 20 (dk_at dksX5_stratum_0 1 rfl rfl)
theorem dX5_stratum_4 : decode cX5_stratum 4 = .ok (.getfield 110, 3) := dk_180 0 110 (dk_at dksX5_stratum_0 4 rfl rfl)
theorem dX5_stratum_7 : decode cX5_stratum 7 = .ok (.iload_n 1, 1) := dk_27 (dk_at dksX5_stratum_0 7 rfl rfl)
theorem dX5_stratum_8 : decode cX5_stratum 8 = .ok (.iaload, 1) := dk_46 (dk_at dksX5_stratum_0 8 rfl rfl)
theorem dX5_stratum_9 : decode cX5_stratum 9 = .ok (.bipush 10, 2) := dk_16 10 (dk_at dksX5_stratum_0 9 rfl rfl)
theorem dX5_stratum_11 : decode cX5_stratum 11 = .ok (.irem, 1) := dk_112 (dk_at dksX5_stratum_0 11 rfl rfl)
theorem dX5_stratum_12 : decode cX5_stratum 12 = .ok (.ireturn, 1) := dk_172 (dk_at dksX5_stratum_0 12 rfl rfl)
abbrev mX5_stratum : sd_Y := (yX5_stratum, cX5_stratum, 2, some (.int), none)
def fX5_stratum (G : sd_G) (a0 : Nat) (a1 : Int32) : sd_M Int32 :=
  sd_bnd (sd_getR G 4 4 a0) fun v1 =>
  sd_bnd (sd_getR G 5 8 v1) fun v2 =>
  sd_bnd (sd_aldI G 0 v2 a1) fun v3 =>
  sd_ret (v3 - v3 / 10 * 10)
set_option maxHeartbeats 4000000 in
theorem sX5_stratum (l : Launch) (G : sd_G) (a0 : Nat) (a1 : Int32) (h : sd_H) (ρ : Int32) (cT : Nat × Nat) (h2 : sd_H) (hf : fX5_stratum G a0 a1 h = some (ρ, cT, h2)) : sd_Met mX5_stratum ((l, G), (0, 0), [.ref a0, .int a1], (sd_oI ρ, h2), cT) h := by
  refine sd_entry (plainFor_of_name rfl) rfl (Nat.le_of_ble_eq_true rfl) ?_
  show sd_J mX5_stratum ((l, G), (0, 0), [.ref a0, .int a1], (sd_oI ρ, h2), cT) 0 [(0, .ref a0), (1, .int a1)] [] h cT
  unfold fX5_stratum at hf
  refine sj_aload_n 0 dX5_stratum_0 rfl ?_
  refine sj_getR fdX5_20_4 hf dX5_stratum_1 (fun v1 hf => ?_)
  refine sj_getR fdX5_110_5 hf dX5_stratum_4 (fun v2 hf => ?_)
  refine sj_iload_n 1 dX5_stratum_7 rfl ?_
  refine sj_iald hf dX5_stratum_8 (fun v3 hf => ?_)
  refine sj_bipush (v := 10) dX5_stratum_9 (by decide) ?_
  refine sj_irem dX5_stratum_11 (by decide) ?_
  exact sj_iret (o := sd_oI) hf rfl rfl rfl dX5_stratum_12
/-! SofaDigModel.stratumOf(I)I -/
abbrev cX5_stratumOf : ByteArray := prog_46_method_107_code
def yX5_stratumOf : MethodName := ⟨RX5, "stratumOf", "(I)I"⟩
def dkwX5_stratumOf_1 : List UInt8 := [182, 1, 139, 172]
abbrev dktX5_stratumOf_1 : List UInt8 := dkwX5_stratumOf_1 ++ []
def dkwX5_stratumOf_0 : List UInt8 := [42, 3, 181, 0, 58, 42, 27, 182, 0, 176, 153, 0, 11, 42, 27, 182, 0, 116, 167, 0, 8, 42, 4]
abbrev dktX5_stratumOf_0 : List UInt8 := dkwX5_stratumOf_0 ++ dktX5_stratumOf_1
theorem dksX5_stratumOf_0 : cX5_stratumOf.data.toList.drop 0 = dktX5_stratumOf_0 := by decide +kernel
theorem dksX5_stratumOf_1 : cX5_stratumOf.data.toList.drop 23 = dktX5_stratumOf_1 := dk_seg dksX5_stratumOf_0 23 rfl rfl
theorem dX5_stratumOf_0 : decode cX5_stratumOf 0 = .ok (.aload_n 0, 1) := dk_42 (dk_at dksX5_stratumOf_0 0 rfl rfl)
theorem dX5_stratumOf_1 : decode cX5_stratumOf 1 = .ok (.iconst 0, 1) := dk_3 (dk_at dksX5_stratumOf_0 1 rfl rfl)
theorem dX5_stratumOf_2 : decode cX5_stratumOf 2 = .ok (.putfield 58, 3) := dk_181 0 58 (dk_at dksX5_stratumOf_0 2 rfl rfl)
theorem dX5_stratumOf_5 : decode cX5_stratumOf 5 = .ok (.aload_n 0, 1) := dk_42 (dk_at dksX5_stratumOf_0 5 rfl rfl)
theorem dX5_stratumOf_6 : decode cX5_stratumOf 6 = .ok (.iload_n 1, 1) := dk_27 (dk_at dksX5_stratumOf_0 6 rfl rfl)
theorem dX5_stratumOf_7 : decode cX5_stratumOf 7 = .ok (.invokevirtual 176, 3) := dk_182 0 176 (dk_at dksX5_stratumOf_0 7 rfl rfl)
theorem dX5_stratumOf_10 : decode cX5_stratumOf 10 = .ok (.ifCond .eq 11, 3) := dk_153 0 11 (dk_at dksX5_stratumOf_0 10 rfl rfl)
theorem dX5_stratumOf_13 : decode cX5_stratumOf 13 = .ok (.aload_n 0, 1) := dk_42 (dk_at dksX5_stratumOf_0 13 rfl rfl)
theorem dX5_stratumOf_14 : decode cX5_stratumOf 14 = .ok (.iload_n 1, 1) := dk_27 (dk_at dksX5_stratumOf_0 14 rfl rfl)
theorem dX5_stratumOf_15 : decode cX5_stratumOf 15 = .ok (.invokevirtual 116, 3) := dk_182 0 116 (dk_at dksX5_stratumOf_0 15 rfl rfl)
theorem dX5_stratumOf_18 : decode cX5_stratumOf 18 = .ok (.goto 8, 3) := dk_167 0 8 (dk_at dksX5_stratumOf_0 18 rfl rfl)
theorem dX5_stratumOf_21 : decode cX5_stratumOf 21 = .ok (.aload_n 0, 1) := dk_42 (dk_at dksX5_stratumOf_0 21 rfl rfl)
theorem dX5_stratumOf_22 : decode cX5_stratumOf 22 = .ok (.iconst 1, 1) := dk_4 (dk_at dksX5_stratumOf_0 22 rfl rfl)
theorem dX5_stratumOf_23 : decode cX5_stratumOf 23 = .ok (.invokevirtual 395, 3) := dk_182 1 139 (dk_at dksX5_stratumOf_1 0 rfl rfl)
theorem dX5_stratumOf_26 : decode cX5_stratumOf 26 = .ok (.ireturn, 1) := dk_172 (dk_at dksX5_stratumOf_1 3 rfl rfl)
abbrev mX5_stratumOf : sd_Y := (yX5_stratumOf, cX5_stratumOf, 2, some (.int), none)
def fX5_stratumOf (G : sd_G) (a0 : Nat) (a1 : Int32) : sd_M Int32 :=
  sd_bnd (sd_put 4 0 .int a0 (.int 0)) fun _ =>
  sd_bnd (sd_isC G 4 a0) fun _ =>
  sd_bnd (fX5_isFind G a0 a1) fun r1 =>
  if r1 = 0 then (
    sd_bnd (sd_isC G 4 a0) fun _ =>
    sd_bnd (fX5_no G a0 1) fun r2 =>
    sd_ret r2)
  else (
    sd_bnd (sd_isC G 4 a0) fun _ =>
    sd_bnd (fX5_stratum G a0 a1) fun r3 =>
    sd_ret r3)
set_option maxHeartbeats 4000000 in
theorem sX5_stratumOf (l : Launch) (G : sd_G) (a0 : Nat) (a1 : Int32) (h : sd_H) (ρ : Int32) (cT : Nat × Nat) (h2 : sd_H) (hf : fX5_stratumOf G a0 a1 h = some (ρ, cT, h2)) : sd_Met mX5_stratumOf ((l, G), (2, 43), [.ref a0, .int a1], (sd_oI ρ, h2), cT) h := by
  refine sd_entry (plainFor_of_name rfl) rfl (Nat.le_of_ble_eq_true rfl) ?_
  show sd_J mX5_stratumOf ((l, G), (2, 43), [.ref a0, .int a1], (sd_oI ρ, h2), cT) 0 [(0, .ref a0), (1, .int a1)] [] h cT
  unfold fX5_stratumOf at hf
  refine sj_aload_n 0 dX5_stratumOf_0 rfl ?_
  refine sj_iconst (v := 0) dX5_stratumOf_1 (by decide) ?_
  refine sj_put (fpX5_58_4 _ _) hf dX5_stratumOf_2 (fun h hf => ?_)
  refine sj_aload_n 0 dX5_stratumOf_5 rfl ?_
  refine sj_iload_n 1 dX5_stratumOf_6 rfl ?_
  obtain ⟨fs7, he7, hf⟩ := sd_isC_some hf
  refine sj_cI (rest := []) (fun _ _ _ e => sj_runV (n := 1) (As := [.int a1]) (rest := []) (sX5_isFind l G a0 a1 h _ _ _ e) he7 rfl rfl rfl rfl q3226 q3228 qs91 q127 q3229 (by decide +kernel) rfl rfl ⟨Nat.le_of_ble_eq_true rfl, Nat.le_of_ble_eq_true rfl⟩ rfl (Nat.le_of_ble_eq_true rfl) dX5_stratumOf_7) hf (fun r1 h c hf => ?_)
  refine sj_ifeq 21 hf dX5_stratumOf_10 (by decide) (fun g10 hf => ?_) (fun g10 hf => ?_)
  · refine sj_aload_n 0 dX5_stratumOf_21 rfl ?_
    refine sj_iconst (v := 1) dX5_stratumOf_22 (by decide) ?_
    obtain ⟨fs23, he23, hf⟩ := sd_isC_some hf
    refine sj_cI (rest := []) (fun _ _ _ e => sj_runV (n := 1) (As := [.int 1]) (rest := []) (sX5_no l G a0 1 h _ _ _ e) he23 rfl rfl rfl rfl q2913 q2915 qs42 q127 q2916 (by decide +kernel) rfl rfl ⟨Nat.le_of_ble_eq_true rfl, Nat.le_of_ble_eq_true rfl⟩ rfl (Nat.le_of_ble_eq_true rfl) dX5_stratumOf_23) hf (fun r2 h c hf => ?_)
    exact sj_iret (o := sd_oI) hf rfl rfl rfl dX5_stratumOf_26
  · refine sj_aload_n 0 dX5_stratumOf_13 rfl ?_
    refine sj_iload_n 1 dX5_stratumOf_14 rfl ?_
    obtain ⟨fs15, he15, hf⟩ := sd_isC_some hf
    refine sj_cI (rest := []) (fun _ _ _ e => sj_runV (n := 1) (As := [.int a1]) (rest := []) (sX5_stratum l G a0 a1 h _ _ _ e) he15 rfl rfl rfl rfl q3246 q3248 qs93 q127 q3249 (by decide +kernel) rfl rfl ⟨Nat.le_of_ble_eq_true rfl, Nat.le_of_ble_eq_true rfl⟩ rfl (Nat.le_of_ble_eq_true rfl) dX5_stratumOf_15) hf (fun r3 h c hf => ?_)
    refine sj_goto 26 dX5_stratumOf_18 (by decide) ?_
    exact sj_iret (o := sd_oI) hf rfl rfl rfl dX5_stratumOf_26
/-! SofaDigModel.whatOf(IZ)I -/
abbrev cX5_whatOf : ByteArray := prog_46_method_108_code
def yX5_whatOf : MethodName := ⟨RX5, "whatOf", "(IZ)I"⟩
def dkwX5_whatOf_2 : List UInt8 := [182, 1, 139, 172]
abbrev dktX5_whatOf_2 : List UInt8 := dkwX5_whatOf_2 ++ []
def dkwX5_whatOf_1 : List UInt8 := [180, 0, 119, 27, 51, 28, 160, 0, 15, 42, 180, 0, 20, 180, 0, 122, 27, 46, 167, 0, 8, 42, 5]
abbrev dktX5_whatOf_1 : List UInt8 := dkwX5_whatOf_1 ++ dktX5_whatOf_2
def dkwX5_whatOf_0 : List UInt8 := [42, 3, 181, 0, 58, 42, 27, 182, 0, 176, 154, 0, 9, 42, 4, 182, 1, 139, 172, 42, 180, 0, 20]
abbrev dktX5_whatOf_0 : List UInt8 := dkwX5_whatOf_0 ++ dktX5_whatOf_1
theorem dksX5_whatOf_0 : cX5_whatOf.data.toList.drop 0 = dktX5_whatOf_0 := by decide +kernel
theorem dksX5_whatOf_1 : cX5_whatOf.data.toList.drop 23 = dktX5_whatOf_1 := dk_seg dksX5_whatOf_0 23 rfl rfl
theorem dksX5_whatOf_2 : cX5_whatOf.data.toList.drop 46 = dktX5_whatOf_2 := dk_seg dksX5_whatOf_1 23 rfl rfl
theorem dX5_whatOf_0 : decode cX5_whatOf 0 = .ok (.aload_n 0, 1) := dk_42 (dk_at dksX5_whatOf_0 0 rfl rfl)
theorem dX5_whatOf_1 : decode cX5_whatOf 1 = .ok (.iconst 0, 1) := dk_3 (dk_at dksX5_whatOf_0 1 rfl rfl)
theorem dX5_whatOf_2 : decode cX5_whatOf 2 = .ok (.putfield 58, 3) := dk_181 0 58 (dk_at dksX5_whatOf_0 2 rfl rfl)
theorem dX5_whatOf_5 : decode cX5_whatOf 5 = .ok (.aload_n 0, 1) := dk_42 (dk_at dksX5_whatOf_0 5 rfl rfl)
theorem dX5_whatOf_6 : decode cX5_whatOf 6 = .ok (.iload_n 1, 1) := dk_27 (dk_at dksX5_whatOf_0 6 rfl rfl)
theorem dX5_whatOf_7 : decode cX5_whatOf 7 = .ok (.invokevirtual 176, 3) := dk_182 0 176 (dk_at dksX5_whatOf_0 7 rfl rfl)
theorem dX5_whatOf_10 : decode cX5_whatOf 10 = .ok (.ifCond .ne 9, 3) := dk_154 0 9 (dk_at dksX5_whatOf_0 10 rfl rfl)
theorem dX5_whatOf_13 : decode cX5_whatOf 13 = .ok (.aload_n 0, 1) := dk_42 (dk_at dksX5_whatOf_0 13 rfl rfl)
theorem dX5_whatOf_14 : decode cX5_whatOf 14 = .ok (.iconst 1, 1) := dk_4 (dk_at dksX5_whatOf_0 14 rfl rfl)
theorem dX5_whatOf_15 : decode cX5_whatOf 15 = .ok (.invokevirtual 395, 3) := dk_182 1 139 (dk_at dksX5_whatOf_0 15 rfl rfl)
theorem dX5_whatOf_18 : decode cX5_whatOf 18 = .ok (.ireturn, 1) := dk_172 (dk_at dksX5_whatOf_0 18 rfl rfl)
theorem dX5_whatOf_19 : decode cX5_whatOf 19 = .ok (.aload_n 0, 1) := dk_42 (dk_at dksX5_whatOf_0 19 rfl rfl)
theorem dX5_whatOf_20 : decode cX5_whatOf 20 = .ok (.getfield 20, 3) := dk_180 0 20 (dk_at dksX5_whatOf_0 20 rfl rfl)
theorem dX5_whatOf_23 : decode cX5_whatOf 23 = .ok (.getfield 119, 3) := dk_180 0 119 (dk_at dksX5_whatOf_1 0 rfl rfl)
theorem dX5_whatOf_26 : decode cX5_whatOf 26 = .ok (.iload_n 1, 1) := dk_27 (dk_at dksX5_whatOf_1 3 rfl rfl)
theorem dX5_whatOf_27 : decode cX5_whatOf 27 = .ok (.baload, 1) := dk_51 (dk_at dksX5_whatOf_1 4 rfl rfl)
theorem dX5_whatOf_28 : decode cX5_whatOf 28 = .ok (.iload_n 2, 1) := dk_28 (dk_at dksX5_whatOf_1 5 rfl rfl)
theorem dX5_whatOf_29 : decode cX5_whatOf 29 = .ok (.if_icmp .ne 15, 3) := dk_160 0 15 (dk_at dksX5_whatOf_1 6 rfl rfl)
theorem dX5_whatOf_32 : decode cX5_whatOf 32 = .ok (.aload_n 0, 1) := dk_42 (dk_at dksX5_whatOf_1 9 rfl rfl)
theorem dX5_whatOf_33 : decode cX5_whatOf 33 = .ok (.getfield 20, 3) := dk_180 0 20 (dk_at dksX5_whatOf_1 10 rfl rfl)
theorem dX5_whatOf_36 : decode cX5_whatOf 36 = .ok (.getfield 122, 3) := dk_180 0 122 (dk_at dksX5_whatOf_1 13 rfl rfl)
theorem dX5_whatOf_39 : decode cX5_whatOf 39 = .ok (.iload_n 1, 1) := dk_27 (dk_at dksX5_whatOf_1 16 rfl rfl)
theorem dX5_whatOf_40 : decode cX5_whatOf 40 = .ok (.iaload, 1) := dk_46 (dk_at dksX5_whatOf_1 17 rfl rfl)
theorem dX5_whatOf_41 : decode cX5_whatOf 41 = .ok (.goto 8, 3) := dk_167 0 8 (dk_at dksX5_whatOf_1 18 rfl rfl)
theorem dX5_whatOf_44 : decode cX5_whatOf 44 = .ok (.aload_n 0, 1) := dk_42 (dk_at dksX5_whatOf_1 21 rfl rfl)
theorem dX5_whatOf_45 : decode cX5_whatOf 45 = .ok (.iconst 2, 1) := dk_5 (dk_at dksX5_whatOf_1 22 rfl rfl)
theorem dX5_whatOf_46 : decode cX5_whatOf 46 = .ok (.invokevirtual 395, 3) := dk_182 1 139 (dk_at dksX5_whatOf_2 0 rfl rfl)
theorem dX5_whatOf_49 : decode cX5_whatOf 49 = .ok (.ireturn, 1) := dk_172 (dk_at dksX5_whatOf_2 3 rfl rfl)
abbrev mX5_whatOf : sd_Y := (yX5_whatOf, cX5_whatOf, 3, some (.int), none)
def fX5_whatOf (G : sd_G) (a0 : Nat) (a1 : Int32) (a2 : Int32) : sd_M Int32 :=
  sd_bnd (sd_put 4 0 .int a0 (.int 0)) fun _ =>
  sd_bnd (sd_isC G 4 a0) fun _ =>
  sd_bnd (fX5_isFind G a0 a1) fun r1 =>
  if r1 = 0 then (
    sd_bnd (sd_isC G 4 a0) fun _ =>
    sd_bnd (fX5_no G a0 1) fun r9 =>
    sd_ret r9)
  else (
    sd_bnd (sd_getR G 4 4 a0) fun v2 =>
    sd_bnd (sd_getR G 5 7 v2) fun v3 =>
    sd_bnd (sd_aldI G 3 v3 a1) fun v4 =>
    if v4 = a2 then (
      sd_bnd (sd_getR G 4 4 a0) fun v6 =>
      sd_bnd (sd_getR G 5 9 v6) fun v7 =>
      sd_bnd (sd_aldI G 0 v7 a1) fun v8 =>
      sd_ret v8)
    else (
      sd_bnd (sd_isC G 4 a0) fun _ =>
      sd_bnd (fX5_no G a0 2) fun r5 =>
      sd_ret r5))
set_option maxHeartbeats 4000000 in
theorem sX5_whatOf (l : Launch) (G : sd_G) (a0 : Nat) (a1 : Int32) (a2 : Int32) (h : sd_H) (ρ : Int32) (cT : Nat × Nat) (h2 : sd_H) (hf : fX5_whatOf G a0 a1 a2 h = some (ρ, cT, h2)) : sd_Met mX5_whatOf ((l, G), (2, 43), [.ref a0, .int a1, .int a2], (sd_oI ρ, h2), cT) h := by
  refine sd_entry (plainFor_of_name rfl) rfl (Nat.le_of_ble_eq_true rfl) ?_
  show sd_J mX5_whatOf ((l, G), (2, 43), [.ref a0, .int a1, .int a2], (sd_oI ρ, h2), cT) 0 [(0, .ref a0), (1, .int a1), (2, .int a2)] [] h cT
  unfold fX5_whatOf at hf
  refine sj_aload_n 0 dX5_whatOf_0 rfl ?_
  refine sj_iconst (v := 0) dX5_whatOf_1 (by decide) ?_
  refine sj_put (fpX5_58_4 _ _) hf dX5_whatOf_2 (fun h hf => ?_)
  refine sj_aload_n 0 dX5_whatOf_5 rfl ?_
  refine sj_iload_n 1 dX5_whatOf_6 rfl ?_
  obtain ⟨fs7, he7, hf⟩ := sd_isC_some hf
  refine sj_cI (rest := []) (fun _ _ _ e => sj_runV (n := 1) (As := [.int a1]) (rest := []) (sX5_isFind l G a0 a1 h _ _ _ e) he7 rfl rfl rfl rfl q3226 q3228 qs91 q127 q3229 (by decide +kernel) rfl rfl ⟨Nat.le_of_ble_eq_true rfl, Nat.le_of_ble_eq_true rfl⟩ rfl (Nat.le_of_ble_eq_true rfl) dX5_whatOf_7) hf (fun r1 h c hf => ?_)
  refine sj_ifne 19 hf dX5_whatOf_10 (by decide) (fun g10 hf => ?_) (fun g10 hf => ?_)
  · refine sj_aload_n 0 dX5_whatOf_19 rfl ?_
    refine sj_getR fdX5_20_4 hf dX5_whatOf_20 (fun v2 hf => ?_)
    refine sj_getR fdX5_119_5 hf dX5_whatOf_23 (fun v3 hf => ?_)
    refine sj_iload_n 1 dX5_whatOf_26 rfl ?_
    refine sj_zald hf dX5_whatOf_27 (fun v4 hf => ?_)
    refine sj_iload_n 2 dX5_whatOf_28 rfl ?_
    refine sj_icne 44 hf dX5_whatOf_29 (by decide) (fun g29 hf => ?_) (fun g29 hf => ?_)
    · refine sj_aload_n 0 dX5_whatOf_44 rfl ?_
      refine sj_iconst (v := 2) dX5_whatOf_45 (by decide) ?_
      obtain ⟨fs46, he46, hf⟩ := sd_isC_some hf
      refine sj_cI (rest := []) (fun _ _ _ e => sj_runV (n := 1) (As := [.int 2]) (rest := []) (sX5_no l G a0 2 h _ _ _ e) he46 rfl rfl rfl rfl q2913 q2915 qs42 q127 q2916 (by decide +kernel) rfl rfl ⟨Nat.le_of_ble_eq_true rfl, Nat.le_of_ble_eq_true rfl⟩ rfl (Nat.le_of_ble_eq_true rfl) dX5_whatOf_46) hf (fun r5 h c hf => ?_)
      exact sj_iret (o := sd_oI) hf rfl rfl rfl dX5_whatOf_49
    · refine sj_aload_n 0 dX5_whatOf_32 rfl ?_
      refine sj_getR fdX5_20_4 hf dX5_whatOf_33 (fun v6 hf => ?_)
      refine sj_getR fdX5_122_5 hf dX5_whatOf_36 (fun v7 hf => ?_)
      refine sj_iload_n 1 dX5_whatOf_39 rfl ?_
      refine sj_iald hf dX5_whatOf_40 (fun v8 hf => ?_)
      refine sj_goto 49 dX5_whatOf_41 (by decide) ?_
      exact sj_iret (o := sd_oI) hf rfl rfl rfl dX5_whatOf_49
  · refine sj_aload_n 0 dX5_whatOf_13 rfl ?_
    refine sj_iconst (v := 1) dX5_whatOf_14 (by decide) ?_
    obtain ⟨fs15, he15, hf⟩ := sd_isC_some hf
    refine sj_cI (rest := []) (fun _ _ _ e => sj_runV (n := 1) (As := [.int 1]) (rest := []) (sX5_no l G a0 1 h _ _ _ e) he15 rfl rfl rfl rfl q2913 q2915 qs42 q127 q2916 (by decide +kernel) rfl rfl ⟨Nat.le_of_ble_eq_true rfl, Nat.le_of_ble_eq_true rfl⟩ rfl (Nat.le_of_ble_eq_true rfl) dX5_whatOf_15) hf (fun r9 h c hf => ?_)
    exact sj_iret (o := sd_oI) hf rfl rfl rfl dX5_whatOf_18
/-! SofaDigModel.yearOf(I)I -/
abbrev cX5_yearOf : ByteArray := prog_46_method_109_code
def yX5_yearOf : MethodName := ⟨RX5, "yearOf", "(I)I"⟩
def dkwX5_yearOf_0 : List UInt8 := [42, 27, 4, 182, 1, 157, 172]
abbrev dktX5_yearOf_0 : List UInt8 := dkwX5_yearOf_0 ++ []
theorem dksX5_yearOf_0 : cX5_yearOf.data.toList.drop 0 = dktX5_yearOf_0 := by decide +kernel
theorem dX5_yearOf_0 : decode cX5_yearOf 0 = .ok (.aload_n 0, 1) := dk_42 (dk_at dksX5_yearOf_0 0 rfl rfl)
theorem dX5_yearOf_1 : decode cX5_yearOf 1 = .ok (.iload_n 1, 1) := dk_27 (dk_at dksX5_yearOf_0 1 rfl rfl)
theorem dX5_yearOf_2 : decode cX5_yearOf 2 = .ok (.iconst 1, 1) := dk_4 (dk_at dksX5_yearOf_0 2 rfl rfl)
theorem dX5_yearOf_3 : decode cX5_yearOf 3 = .ok (.invokevirtual 413, 3) := dk_182 1 157 (dk_at dksX5_yearOf_0 3 rfl rfl)
theorem dX5_yearOf_6 : decode cX5_yearOf 6 = .ok (.ireturn, 1) := dk_172 (dk_at dksX5_yearOf_0 6 rfl rfl)
abbrev mX5_yearOf : sd_Y := (yX5_yearOf, cX5_yearOf, 2, some (.int), none)
def fX5_yearOf (G : sd_G) (a0 : Nat) (a1 : Int32) : sd_M Int32 :=
  sd_bnd (sd_isC G 4 a0) fun _ =>
  sd_bnd (fX5_whatOf G a0 a1 1) fun r1 =>
  sd_ret r1
set_option maxHeartbeats 4000000 in
theorem sX5_yearOf (l : Launch) (G : sd_G) (a0 : Nat) (a1 : Int32) (h : sd_H) (ρ : Int32) (cT : Nat × Nat) (h2 : sd_H) (hf : fX5_yearOf G a0 a1 h = some (ρ, cT, h2)) : sd_Met mX5_yearOf ((l, G), (3, 65), [.ref a0, .int a1], (sd_oI ρ, h2), cT) h := by
  refine sd_entry (plainFor_of_name rfl) rfl (Nat.le_of_ble_eq_true rfl) ?_
  show sd_J mX5_yearOf ((l, G), (3, 65), [.ref a0, .int a1], (sd_oI ρ, h2), cT) 0 [(0, .ref a0), (1, .int a1)] [] h cT
  unfold fX5_yearOf at hf
  refine sj_aload_n 0 dX5_yearOf_0 rfl ?_
  refine sj_iload_n 1 dX5_yearOf_1 rfl ?_
  refine sj_iconst (v := 1) dX5_yearOf_2 (by decide) ?_
  obtain ⟨fs3, he3, hf⟩ := sd_isC_some hf
  refine sj_cI (rest := []) (fun _ _ _ e => sj_runV (n := 2) (As := [.int a1, .int 1]) (rest := []) (sX5_whatOf l G a0 a1 1 h _ _ _ e) he3 rfl rfl rfl rfl q3254 q3256 qs94 q127 q3257 (by decide +kernel) rfl rfl ⟨Nat.le_of_ble_eq_true rfl, Nat.le_of_ble_eq_true rfl⟩ rfl (Nat.le_of_ble_eq_true rfl) dX5_yearOf_3) hf (fun r1 h c hf => ?_)
  exact sj_iret (o := sd_oI) hf rfl rfl rfl dX5_yearOf_6
/-! SofaDigModel.empireOf(I)I -/
abbrev cX5_empireOf : ByteArray := prog_46_method_110_code
def yX5_empireOf : MethodName := ⟨RX5, "empireOf", "(I)I"⟩
def dkwX5_empireOf_0 : List UInt8 := [42, 27, 3, 182, 1, 157, 172]
abbrev dktX5_empireOf_0 : List UInt8 := dkwX5_empireOf_0 ++ []
theorem dksX5_empireOf_0 : cX5_empireOf.data.toList.drop 0 = dktX5_empireOf_0 := by decide +kernel
theorem dX5_empireOf_0 : decode cX5_empireOf 0 = .ok (.aload_n 0, 1) := dk_42 (dk_at dksX5_empireOf_0 0 rfl rfl)
theorem dX5_empireOf_1 : decode cX5_empireOf 1 = .ok (.iload_n 1, 1) := dk_27 (dk_at dksX5_empireOf_0 1 rfl rfl)
theorem dX5_empireOf_2 : decode cX5_empireOf 2 = .ok (.iconst 0, 1) := dk_3 (dk_at dksX5_empireOf_0 2 rfl rfl)
theorem dX5_empireOf_3 : decode cX5_empireOf 3 = .ok (.invokevirtual 413, 3) := dk_182 1 157 (dk_at dksX5_empireOf_0 3 rfl rfl)
theorem dX5_empireOf_6 : decode cX5_empireOf 6 = .ok (.ireturn, 1) := dk_172 (dk_at dksX5_empireOf_0 6 rfl rfl)
abbrev mX5_empireOf : sd_Y := (yX5_empireOf, cX5_empireOf, 2, some (.int), none)
def fX5_empireOf (G : sd_G) (a0 : Nat) (a1 : Int32) : sd_M Int32 :=
  sd_bnd (sd_isC G 4 a0) fun _ =>
  sd_bnd (fX5_whatOf G a0 a1 0) fun r1 =>
  sd_ret r1
set_option maxHeartbeats 4000000 in
theorem sX5_empireOf (l : Launch) (G : sd_G) (a0 : Nat) (a1 : Int32) (h : sd_H) (ρ : Int32) (cT : Nat × Nat) (h2 : sd_H) (hf : fX5_empireOf G a0 a1 h = some (ρ, cT, h2)) : sd_Met mX5_empireOf ((l, G), (3, 65), [.ref a0, .int a1], (sd_oI ρ, h2), cT) h := by
  refine sd_entry (plainFor_of_name rfl) rfl (Nat.le_of_ble_eq_true rfl) ?_
  show sd_J mX5_empireOf ((l, G), (3, 65), [.ref a0, .int a1], (sd_oI ρ, h2), cT) 0 [(0, .ref a0), (1, .int a1)] [] h cT
  unfold fX5_empireOf at hf
  refine sj_aload_n 0 dX5_empireOf_0 rfl ?_
  refine sj_iload_n 1 dX5_empireOf_1 rfl ?_
  refine sj_iconst (v := 0) dX5_empireOf_2 (by decide) ?_
  obtain ⟨fs3, he3, hf⟩ := sd_isC_some hf
  refine sj_cI (rest := []) (fun _ _ _ e => sj_runV (n := 2) (As := [.int a1, .int 0]) (rest := []) (sX5_whatOf l G a0 a1 0 h _ _ _ e) he3 rfl rfl rfl rfl q3254 q3256 qs94 q127 q3257 (by decide +kernel) rfl rfl ⟨Nat.le_of_ble_eq_true rfl, Nat.le_of_ble_eq_true rfl⟩ rfl (Nat.le_of_ble_eq_true rfl) dX5_empireOf_3) hf (fun r1 h c hf => ?_)
  exact sj_iret (o := sd_oI) hf rfl rfl rfl dX5_empireOf_6
/-! SofaDigModel.buried(I)I -/
abbrev cX5_buried : ByteArray := prog_46_method_22_code
def yX5_buried : MethodName := ⟨RX5, "buried", "(I)I"⟩
def dkwX5_buried_3 : List UInt8 := [167, 255, 189, 2, 172]
abbrev dktX5_buried_3 : List UInt8 := dkwX5_buried_3 ++ []
def dkwX5_buried_2 : List UInt8 := [160, 0, 13, 42, 28, 182, 0, 74, 4, 100, 29, 100, 172, 132, 3, 1, 167, 255, 208, 132, 2, 1]
abbrev dktX5_buried_2 : List UInt8 := dkwX5_buried_2 ++ dktX5_buried_3
def dkwX5_buried_1 : List UInt8 := [42, 180, 0, 40, 16, 13, 16, 10, 28, 104, 96, 29, 96, 46, 42, 180, 0, 20, 180, 0, 110, 27, 46]
abbrev dktX5_buried_1 : List UInt8 := dkwX5_buried_1 ++ dktX5_buried_2
def dkwX5_buried_0 : List UInt8 := [3, 61, 28, 42, 180, 0, 20, 180, 0, 52, 162, 0, 62, 3, 62, 29, 42, 28, 182, 0, 74, 162, 0, 45]
abbrev dktX5_buried_0 : List UInt8 := dkwX5_buried_0 ++ dktX5_buried_1
theorem dksX5_buried_0 : cX5_buried.data.toList.drop 0 = dktX5_buried_0 := by decide +kernel
theorem dksX5_buried_1 : cX5_buried.data.toList.drop 24 = dktX5_buried_1 := dk_seg dksX5_buried_0 24 rfl rfl
theorem dksX5_buried_2 : cX5_buried.data.toList.drop 47 = dktX5_buried_2 := dk_seg dksX5_buried_1 23 rfl rfl
theorem dksX5_buried_3 : cX5_buried.data.toList.drop 69 = dktX5_buried_3 := dk_seg dksX5_buried_2 22 rfl rfl
theorem dX5_buried_0 : decode cX5_buried 0 = .ok (.iconst 0, 1) := dk_3 (dk_at dksX5_buried_0 0 rfl rfl)
theorem dX5_buried_1 : decode cX5_buried 1 = .ok (.istore_n 2, 1) := dk_61 (dk_at dksX5_buried_0 1 rfl rfl)
theorem dX5_buried_2 : decode cX5_buried 2 = .ok (.iload_n 2, 1) := dk_28 (dk_at dksX5_buried_0 2 rfl rfl)
theorem dX5_buried_3 : decode cX5_buried 3 = .ok (.aload_n 0, 1) := dk_42 (dk_at dksX5_buried_0 3 rfl rfl)
theorem dX5_buried_4 : decode cX5_buried 4 = .ok (.getfield 20, 3) := dk_180 0 20 (dk_at dksX5_buried_0 4 rfl rfl)
theorem dX5_buried_7 : decode cX5_buried 7 = .ok (.getfield 52, 3) := dk_180 0 52 (dk_at dksX5_buried_0 7 rfl rfl)
theorem dX5_buried_10 : decode cX5_buried 10 = .ok (.if_icmp .ge 62, 3) := dk_162 0 62 (dk_at dksX5_buried_0 10 rfl rfl)
theorem dX5_buried_13 : decode cX5_buried 13 = .ok (.iconst 0, 1) := dk_3 (dk_at dksX5_buried_0 13 rfl rfl)
theorem dX5_buried_14 : decode cX5_buried 14 = .ok (.istore_n 3, 1) := dk_62 (dk_at dksX5_buried_0 14 rfl rfl)
theorem dX5_buried_15 : decode cX5_buried 15 = .ok (.iload_n 3, 1) := dk_29 (dk_at dksX5_buried_0 15 rfl rfl)
theorem dX5_buried_16 : decode cX5_buried 16 = .ok (.aload_n 0, 1) := dk_42 (dk_at dksX5_buried_0 16 rfl rfl)
theorem dX5_buried_17 : decode cX5_buried 17 = .ok (.iload_n 2, 1) := dk_28 (dk_at dksX5_buried_0 17 rfl rfl)
theorem dX5_buried_18 : decode cX5_buried 18 = .ok (.invokevirtual 74, 3) := dk_182 0 74 (dk_at dksX5_buried_0 18 rfl rfl)
theorem dX5_buried_21 : decode cX5_buried 21 = .ok (.if_icmp .ge 45, 3) := dk_162 0 45 (dk_at dksX5_buried_0 21 rfl rfl)
theorem dX5_buried_24 : decode cX5_buried 24 = .ok (.aload_n 0, 1) := dk_42 (dk_at dksX5_buried_1 0 rfl rfl)
theorem dX5_buried_25 : decode cX5_buried 25 = .ok (.getfield 40, 3) := dk_180 0 40 (dk_at dksX5_buried_1 1 rfl rfl)
theorem dX5_buried_28 : decode cX5_buried 28 = .ok (.bipush 13, 2) := dk_16 13 (dk_at dksX5_buried_1 4 rfl rfl)
theorem dX5_buried_30 : decode cX5_buried 30 = .ok (.bipush 10, 2) := dk_16 10 (dk_at dksX5_buried_1 6 rfl rfl)
theorem dX5_buried_32 : decode cX5_buried 32 = .ok (.iload_n 2, 1) := dk_28 (dk_at dksX5_buried_1 8 rfl rfl)
theorem dX5_buried_33 : decode cX5_buried 33 = .ok (.imul, 1) := dk_104 (dk_at dksX5_buried_1 9 rfl rfl)
theorem dX5_buried_34 : decode cX5_buried 34 = .ok (.iadd, 1) := dk_96 (dk_at dksX5_buried_1 10 rfl rfl)
theorem dX5_buried_35 : decode cX5_buried 35 = .ok (.iload_n 3, 1) := dk_29 (dk_at dksX5_buried_1 11 rfl rfl)
theorem dX5_buried_36 : decode cX5_buried 36 = .ok (.iadd, 1) := dk_96 (dk_at dksX5_buried_1 12 rfl rfl)
theorem dX5_buried_37 : decode cX5_buried 37 = .ok (.iaload, 1) := dk_46 (dk_at dksX5_buried_1 13 rfl rfl)
theorem dX5_buried_38 : decode cX5_buried 38 = .ok (.aload_n 0, 1) := dk_42 (dk_at dksX5_buried_1 14 rfl rfl)
theorem dX5_buried_39 : decode cX5_buried 39 = .ok (.getfield 20, 3) := dk_180 0 20 (dk_at dksX5_buried_1 15 rfl rfl)
theorem dX5_buried_42 : decode cX5_buried 42 = .ok (.getfield 110, 3) := dk_180 0 110 (dk_at dksX5_buried_1 18 rfl rfl)
theorem dX5_buried_45 : decode cX5_buried 45 = .ok (.iload_n 1, 1) := dk_27 (dk_at dksX5_buried_1 21 rfl rfl)
theorem dX5_buried_46 : decode cX5_buried 46 = .ok (.iaload, 1) := dk_46 (dk_at dksX5_buried_1 22 rfl rfl)
theorem dX5_buried_47 : decode cX5_buried 47 = .ok (.if_icmp .ne 13, 3) := dk_160 0 13 (dk_at dksX5_buried_2 0 rfl rfl)
theorem dX5_buried_50 : decode cX5_buried 50 = .ok (.aload_n 0, 1) := dk_42 (dk_at dksX5_buried_2 3 rfl rfl)
theorem dX5_buried_51 : decode cX5_buried 51 = .ok (.iload_n 2, 1) := dk_28 (dk_at dksX5_buried_2 4 rfl rfl)
theorem dX5_buried_52 : decode cX5_buried 52 = .ok (.invokevirtual 74, 3) := dk_182 0 74 (dk_at dksX5_buried_2 5 rfl rfl)
theorem dX5_buried_55 : decode cX5_buried 55 = .ok (.iconst 1, 1) := dk_4 (dk_at dksX5_buried_2 8 rfl rfl)
theorem dX5_buried_56 : decode cX5_buried 56 = .ok (.isub, 1) := dk_100 (dk_at dksX5_buried_2 9 rfl rfl)
theorem dX5_buried_57 : decode cX5_buried 57 = .ok (.iload_n 3, 1) := dk_29 (dk_at dksX5_buried_2 10 rfl rfl)
theorem dX5_buried_58 : decode cX5_buried 58 = .ok (.isub, 1) := dk_100 (dk_at dksX5_buried_2 11 rfl rfl)
theorem dX5_buried_59 : decode cX5_buried 59 = .ok (.ireturn, 1) := dk_172 (dk_at dksX5_buried_2 12 rfl rfl)
theorem dX5_buried_60 : decode cX5_buried 60 = .ok (.iinc 3 1, 3) := dk_132 3 1 (dk_at dksX5_buried_2 13 rfl rfl)
theorem dX5_buried_63 : decode cX5_buried 63 = .ok (.goto (-48), 3) := dk_167 255 208 (dk_at dksX5_buried_2 16 rfl rfl)
theorem dX5_buried_66 : decode cX5_buried 66 = .ok (.iinc 2 1, 3) := dk_132 2 1 (dk_at dksX5_buried_2 19 rfl rfl)
theorem dX5_buried_69 : decode cX5_buried 69 = .ok (.goto (-67), 3) := dk_167 255 189 (dk_at dksX5_buried_3 0 rfl rfl)
theorem dX5_buried_72 : decode cX5_buried 72 = .ok (.iconst (-1), 1) := dk_2 (dk_at dksX5_buried_3 3 rfl rfl)
theorem dX5_buried_73 : decode cX5_buried 73 = .ok (.ireturn, 1) := dk_172 (dk_at dksX5_buried_3 4 rfl rfl)
abbrev mX5_buried : sd_Y := (yX5_buried, cX5_buried, 4, some (.int), none)
def fX5_buried_b15 (G : sd_G) (k2 : Nat × Int32 × Int32 → sd_M Int32) (k15 : Nat × Int32 × Int32 × Int32 → sd_M Int32) (w0 : Nat) (w1 : Int32) (w2 : Int32) (w3 : Int32) : sd_M Int32 :=
  sd_bnd (sd_isC G 4 w0) fun _ =>
  sd_bnd (fX5_tall G w0 w2) fun r3 =>
  if r3 ≤ w3 then (
    sd_bnd (sd_ret (w2 + 1)) fun x4 =>
    k2 (w0, w1, x4))
  else (
    sd_bnd (sd_getR G 4 15 w0) fun v5 =>
    sd_bnd (sd_aldI G 0 v5 (((13 : Int32) + ((10 : Int32) * w2)) + w3)) fun v6 =>
    sd_bnd (sd_getR G 4 4 w0) fun v7 =>
    sd_bnd (sd_getR G 5 8 v7) fun v8 =>
    sd_bnd (sd_aldI G 0 v8 w1) fun v9 =>
    if v6 = v9 then (
      sd_bnd (sd_isC G 4 w0) fun _ =>
      sd_bnd (fX5_tall G w0 w2) fun r11 =>
      sd_ret ((r11 - 1) - w3))
    else (
      sd_bnd (sd_ret (w3 + 1)) fun x10 =>
      k15 (w0, w1, w2, x10)))
set_option maxHeartbeats 4000000 in
theorem sX5_buried_b15 (l : Launch) (G : sd_G) (a0 : Nat) (a1 : Int32) (ρ : Int32) (h2 : sd_H) (cT : Nat × Nat) (k2 : Nat × Int32 × Int32 → sd_M Int32) (Hk2 : ∀ (q : Nat × Int32 × Int32) (h : sd_H) (c : Nat × Nat), k2 q h = some (ρ, c, h2) → sd_J mX5_buried ((l, G), (1, 21), [.ref a0, .int a1], (sd_oI ρ, h2), cT) 2 [(0, .ref q.1), (1, .int q.2.1), (2, .int q.2.2)] [] h c) (k15 : Nat × Int32 × Int32 × Int32 → sd_M Int32) (Hk15 : ∀ (q : Nat × Int32 × Int32 × Int32) (h : sd_H) (c : Nat × Nat), k15 q h = some (ρ, c, h2) → sd_J mX5_buried ((l, G), (1, 21), [.ref a0, .int a1], (sd_oI ρ, h2), cT) 15 [(0, .ref q.1), (1, .int q.2.1), (2, .int q.2.2.1), (3, .int q.2.2.2)] [] h c) (w0 : Nat) (w1 : Int32) (w2 : Int32) (w3 : Int32) (h : sd_H) (c : Nat × Nat) (hf : fX5_buried_b15 G k2 k15 w0 w1 w2 w3 h = some (ρ, c, h2)) : sd_J mX5_buried ((l, G), (1, 21), [.ref a0, .int a1], (sd_oI ρ, h2), cT) 15 [(0, .ref w0), (1, .int w1), (2, .int w2), (3, .int w3)] [] h c := by
  unfold fX5_buried_b15 at hf
  refine sj_iload_n 3 dX5_buried_15 rfl ?_
  refine sj_aload_n 0 dX5_buried_16 rfl ?_
  refine sj_iload_n 2 dX5_buried_17 rfl ?_
  obtain ⟨fs18, he18, hf⟩ := sd_isC_some hf
  refine sj_cI (rest := [.int w3]) (fun _ _ _ e => sj_runV (n := 1) (As := [.int w2]) (rest := [.int w3]) (sX5_tall l G w0 w2 h _ _ _ e) he18 rfl rfl rfl rfl q3178 q3180 qs85 q127 q3181 (by decide +kernel) rfl rfl ⟨Nat.le_of_ble_eq_true rfl, Nat.le_of_ble_eq_true rfl⟩ rfl (Nat.le_of_ble_eq_true rfl) dX5_buried_18) hf (fun r3 h c hf => ?_)
  refine sj_icge 66 hf dX5_buried_21 (by decide) (fun g21 hf => ?_) (fun g21 hf => ?_)
  · refine sj_iincN 2 (fun x4 => [(2, .int x4), (0, .ref w0), (1, .int w1), (3, .int w3)]) 1 hf dX5_buried_66 rfl (by decide) (by decide) (fun _ => rfl) (fun x4 hf => ?_)
    refine sj_goto 2 dX5_buried_69 (by decide) ?_
    exact sj_loc [1, 2, 0] rfl (Hk2 (w0, w1, x4) _ _ hf)
  · refine sj_aload_n 0 dX5_buried_24 rfl ?_
    refine sj_getR fdX5_40_4 hf dX5_buried_25 (fun v5 hf => ?_)
    refine sj_bipush (v := 13) dX5_buried_28 (by decide) ?_
    refine sj_bipush (v := 10) dX5_buried_30 (by decide) ?_
    refine sj_iload_n 2 dX5_buried_32 rfl ?_
    refine sj_imul dX5_buried_33 ?_
    refine sj_iadd dX5_buried_34 ?_
    refine sj_iload_n 3 dX5_buried_35 rfl ?_
    refine sj_iadd dX5_buried_36 ?_
    refine sj_iald hf dX5_buried_37 (fun v6 hf => ?_)
    refine sj_aload_n 0 dX5_buried_38 rfl ?_
    refine sj_getR fdX5_20_4 hf dX5_buried_39 (fun v7 hf => ?_)
    refine sj_getR fdX5_110_5 hf dX5_buried_42 (fun v8 hf => ?_)
    refine sj_iload_n 1 dX5_buried_45 rfl ?_
    refine sj_iald hf dX5_buried_46 (fun v9 hf => ?_)
    refine sj_icne 60 hf dX5_buried_47 (by decide) (fun g47 hf => ?_) (fun g47 hf => ?_)
    · refine sj_iincN 3 (fun x10 => [(3, .int x10), (0, .ref w0), (1, .int w1), (2, .int w2)]) 1 hf dX5_buried_60 rfl (by decide) (by decide) (fun _ => rfl) (fun x10 hf => ?_)
      refine sj_goto 15 dX5_buried_63 (by decide) ?_
      exact sj_loc [1, 2, 3, 0] rfl (Hk15 (w0, w1, w2, x10) _ _ hf)
    · refine sj_aload_n 0 dX5_buried_50 rfl ?_
      refine sj_iload_n 2 dX5_buried_51 rfl ?_
      obtain ⟨fs52, he52, hf⟩ := sd_isC_some hf
      refine sj_cI (rest := []) (fun _ _ _ e => sj_runV (n := 1) (As := [.int w2]) (rest := []) (sX5_tall l G w0 w2 h _ _ _ e) he52 rfl rfl rfl rfl q3178 q3180 qs85 q127 q3181 (by decide +kernel) rfl rfl ⟨Nat.le_of_ble_eq_true rfl, Nat.le_of_ble_eq_true rfl⟩ rfl (Nat.le_of_ble_eq_true rfl) dX5_buried_52) hf (fun r11 h c hf => ?_)
      refine sj_iconst (v := 1) dX5_buried_55 (by decide) ?_
      refine sj_isub dX5_buried_56 ?_
      refine sj_iload_n 3 dX5_buried_57 rfl ?_
      refine sj_isub dX5_buried_58 ?_
      exact sj_iret (o := sd_oI) hf rfl rfl rfl dX5_buried_59
theorem sX5_buried_b15_loop (l : Launch) (G : sd_G) (a0 : Nat) (a1 : Int32) (ρ : Int32) (h2 : sd_H) (cT : Nat × Nat) (k2 : Nat × Int32 × Int32 → sd_M Int32) (Hk2 : ∀ (q : Nat × Int32 × Int32) (h : sd_H) (c : Nat × Nat), k2 q h = some (ρ, c, h2) → sd_J mX5_buried ((l, G), (1, 21), [.ref a0, .int a1], (sd_oI ρ, h2), cT) 2 [(0, .ref q.1), (1, .int q.2.1), (2, .int q.2.2)] [] h c) (n : Nat) : ∀ (q : Nat × Int32 × Int32 × Int32) (h : sd_H) (c : Nat × Nat), sd_loop (fun k s => fX5_buried_b15 G k2 k s.1 s.2.1 s.2.2.1 s.2.2.2) n q h = some (ρ, c, h2) → sd_J mX5_buried ((l, G), (1, 21), [.ref a0, .int a1], (sd_oI ρ, h2), cT) 15 [(0, .ref q.1), (1, .int q.2.1), (2, .int q.2.2.1), (3, .int q.2.2.2)] [] h c := by
  induction n with
  | zero => intro q h c hf; cases hf
  | succ n ih => intro q h c hf; exact sX5_buried_b15 l G a0 a1 ρ h2 cT k2 Hk2 _ ih _ _ _ _ _ _ hf
def fX5_buried_b2 (G : sd_G) (k2 : Nat × Int32 × Int32 → sd_M Int32) (w0 : Nat) (w1 : Int32) (w2 : Int32) : sd_M Int32 :=
  sd_bnd (sd_getR G 4 4 w0) fun v1 =>
  sd_bnd (sd_getI G 5 0 v1) fun v2 =>
  if v2 ≤ w2 then (
    sd_ret (-1))
  else (
    sd_loop (fun k s => fX5_buried_b15 G k2 k s.1 s.2.1 s.2.2.1 s.2.2.2) sd_FU (w0, w1, w2, 0))
set_option maxHeartbeats 4000000 in
theorem sX5_buried_b2 (l : Launch) (G : sd_G) (a0 : Nat) (a1 : Int32) (ρ : Int32) (h2 : sd_H) (cT : Nat × Nat) (k2 : Nat × Int32 × Int32 → sd_M Int32) (Hk2 : ∀ (q : Nat × Int32 × Int32) (h : sd_H) (c : Nat × Nat), k2 q h = some (ρ, c, h2) → sd_J mX5_buried ((l, G), (1, 21), [.ref a0, .int a1], (sd_oI ρ, h2), cT) 2 [(0, .ref q.1), (1, .int q.2.1), (2, .int q.2.2)] [] h c) (w0 : Nat) (w1 : Int32) (w2 : Int32) (h : sd_H) (c : Nat × Nat) (hf : fX5_buried_b2 G k2 w0 w1 w2 h = some (ρ, c, h2)) : sd_J mX5_buried ((l, G), (1, 21), [.ref a0, .int a1], (sd_oI ρ, h2), cT) 2 [(0, .ref w0), (1, .int w1), (2, .int w2)] [] h c := by
  unfold fX5_buried_b2 at hf
  refine sj_iload_n 2 dX5_buried_2 rfl ?_
  refine sj_aload_n 0 dX5_buried_3 rfl ?_
  refine sj_getR fdX5_20_4 hf dX5_buried_4 (fun v1 hf => ?_)
  refine sj_getI fdX5_52_5 hf dX5_buried_7 (fun v2 hf => ?_)
  refine sj_icge 72 hf dX5_buried_10 (by decide) (fun g10 hf => ?_) (fun g10 hf => ?_)
  · refine sj_iconst (v := (-1)) dX5_buried_72 (by decide) ?_
    exact sj_iret (o := sd_oI) hf rfl rfl rfl dX5_buried_73
  · refine sj_iconst (v := 0) dX5_buried_13 (by decide) ?_
    refine sj_istore_n [(3, .int 0), (0, .ref w0), (1, .int w1), (2, .int w2)] dX5_buried_14 (by decide) rfl ?_
    exact sj_loc [1, 2, 3, 0] rfl (sX5_buried_b15_loop l G a0 a1 ρ h2 cT k2 Hk2 sd_FU (w0, w1, w2, 0) _ _ hf)
theorem sX5_buried_b2_loop (l : Launch) (G : sd_G) (a0 : Nat) (a1 : Int32) (ρ : Int32) (h2 : sd_H) (cT : Nat × Nat) (n : Nat) : ∀ (q : Nat × Int32 × Int32) (h : sd_H) (c : Nat × Nat), sd_loop (fun k s => fX5_buried_b2 G k s.1 s.2.1 s.2.2) n q h = some (ρ, c, h2) → sd_J mX5_buried ((l, G), (1, 21), [.ref a0, .int a1], (sd_oI ρ, h2), cT) 2 [(0, .ref q.1), (1, .int q.2.1), (2, .int q.2.2)] [] h c := by
  induction n with
  | zero => intro q h c hf; cases hf
  | succ n ih => intro q h c hf; exact sX5_buried_b2 l G a0 a1 ρ h2 cT _ ih _ _ _ _ _ hf
def fX5_buried (G : sd_G) (a0 : Nat) (a1 : Int32) : sd_M Int32 :=
  sd_loop (fun k s => fX5_buried_b2 G k s.1 s.2.1 s.2.2) sd_FU (a0, a1, 0)
set_option maxHeartbeats 4000000 in
theorem sX5_buried (l : Launch) (G : sd_G) (a0 : Nat) (a1 : Int32) (h : sd_H) (ρ : Int32) (cT : Nat × Nat) (h2 : sd_H) (hf : fX5_buried G a0 a1 h = some (ρ, cT, h2)) : sd_Met mX5_buried ((l, G), (1, 21), [.ref a0, .int a1], (sd_oI ρ, h2), cT) h := by
  refine sd_entry (plainFor_of_name rfl) rfl (Nat.le_of_ble_eq_true rfl) ?_
  show sd_J mX5_buried ((l, G), (1, 21), [.ref a0, .int a1], (sd_oI ρ, h2), cT) 0 [(0, .ref a0), (1, .int a1)] [] h cT
  unfold fX5_buried at hf
  refine sj_iconst (v := 0) dX5_buried_0 (by decide) ?_
  refine sj_istore_n [(2, .int 0), (0, .ref a0), (1, .int a1)] dX5_buried_1 (by decide) rfl ?_
  exact sj_loc [1, 2, 0] rfl (sX5_buried_b2_loop l G a0 a1 ρ h2 cT sd_FU (a0, a1, 0) _ _ hf)
