set_option maxRecDepth 100000
theorem q2076 : (Jvm.Cond.fieldLinkNest "SofaDig$Sofa" (164 : Nat) "SofaDig$Order" "craft" "LSofaDig$Craft;" "SofaDig") ∈ lw_tbl := lw_at lw_m9 41 rfl
theorem q2078 : (Jvm.Cond.fieldLinkNest "SofaDig$Sofa" (168 : Nat) "SofaDig$Order" "seat" "LSofaDig$Sum;" "SofaDig") ∈ lw_tbl := lw_at lw_m9 43 rfl
theorem q2080 : (Jvm.Cond.fieldLinkNest "SofaDig$Sofa" (154 : Nat) "SofaDig$Order" "test" "LSofaDig$Test;" "SofaDig") ∈ lw_tbl := lw_at lw_m9 45 rfl
theorem q2236 : (Jvm.Cond.instanceMethod ({ cls := "SofaDig$Sofa", name := "dig", desc := "(I)I" } : Jvm.MethodName)) ∈ lw_all := lw_g (lw_at lw_m9 201 rfl) rfl
theorem q2237 : (Jvm.Cond.selects "SofaDig$Sofa" ({ cls := "SofaDig$Sofa", name := "dig", desc := "(I)I" } : Jvm.MethodName) ({ cls := "SofaDig$Sofa", name := "dig", desc := "(I)I" } : Jvm.MethodName)) ∈ lw_all := lw_g (lw_at lw_m9 202 rfl) rfl
theorem q2563 : (Jvm.Cond.instanceMethod ({ cls := "SofaDig$Sofa", name := "prop", desc := "(I)Z" } : Jvm.MethodName)) ∈ lw_all := lw_g (lw_at lw_m11 48 rfl) rfl
theorem q2564 : (Jvm.Cond.selects "SofaDig$Sofa" ({ cls := "SofaDig$Sofa", name := "prop", desc := "(I)Z" } : Jvm.MethodName) ({ cls := "SofaDig$Sofa", name := "prop", desc := "(I)Z" } : Jvm.MethodName)) ∈ lw_all := lw_g (lw_at lw_m11 49 rfl) rfl
theorem q2576 : (Jvm.Cond.instanceMethod ({ cls := "SofaDig$Sofa", name := "free", desc := "(I)V" } : Jvm.MethodName)) ∈ lw_all := lw_g (lw_at lw_m11 61 rfl) rfl
theorem q2577 : (Jvm.Cond.selects "SofaDig$Sofa" ({ cls := "SofaDig$Sofa", name := "free", desc := "(I)V" } : Jvm.MethodName) ({ cls := "SofaDig$Sofa", name := "free", desc := "(I)V" } : Jvm.MethodName)) ∈ lw_all := lw_g (lw_at lw_m11 62 rfl) rfl
theorem q2589 : (Jvm.Cond.code ({ cls := "SofaDig$Sofa", name := "pass", desc := "(I)V" } : Jvm.MethodName) prog_29_method_22_code (5 : Nat) (Option.none : Option Jvm.ClassFile.FieldType)) ∈ lw_all := lw_g (lw_at lw_m11 74 rfl) rfl
theorem q2590 : (Jvm.Cond.classLink "SofaDig$Sofa" (152 : Nat) "SofaDig$Order") ∈ lw_all := lw_g (lw_at lw_m11 75 rfl) rfl
theorem q2592 : (Jvm.Cond.methodLink "SofaDig$Sofa" (158 : Nat) ({ cls := "SofaDig$Test", name := "holds", desc := "(LSofaDig$Sofa;)Z" } : Jvm.MethodName)) ∈ lw_all := lw_g (lw_at lw_m11 77 rfl) rfl
theorem q2720 : (Jvm.Cond.methodLink "SofaDig$Sofa" (172 : Nat) ({ cls := "SofaDig$Sofa", name := "told", desc := "(LSofaDig$Sum;)I" } : Jvm.MethodName)) ∈ lw_all := lw_g (lw_at lw_m11 205 rfl) rfl
theorem q2721 : (Jvm.Cond.methodLink "SofaDig$Sofa" (175 : Nat) ({ cls := "SofaDig$Craft", name := "carry", desc := "(LSofaDig$Sofa;I)Z" } : Jvm.MethodName)) ∈ lw_all := lw_g (lw_at lw_m11 206 rfl) rfl
theorem q2722 : (Jvm.Cond.declares ({ cls := "SofaDig$Craft", name := "carry", desc := "(LSofaDig$Sofa;I)Z" } : Jvm.MethodName)) ∈ lw_tbl := lw_at lw_m11 207 rfl
theorem q2723 : (Jvm.Cond.sameMethod "SofaDig$Craft" "SofaDig$Craft" "carry" "(LSofaDig$Sofa;I)Z") ∈ lw_all := lw_g (lw_at lw_m11 208 rfl) rfl
theorem q2724 : (Jvm.Cond.selects "SofaDig$Craft$1" ({ cls := "SofaDig$Craft", name := "carry", desc := "(LSofaDig$Sofa;I)Z" } : Jvm.MethodName) ({ cls := "SofaDig$Craft$1", name := "carry", desc := "(LSofaDig$Sofa;I)Z" } : Jvm.MethodName)) ∈ lw_all := lw_g (lw_at lw_m11 209 rfl) rfl
theorem q2725 : (Jvm.Cond.instanceMethod ({ cls := "SofaDig$Craft$1", name := "carry", desc := "(LSofaDig$Sofa;I)Z" } : Jvm.MethodName)) ∈ lw_all := lw_g (lw_at lw_m11 210 rfl) rfl
theorem q2726 : (Jvm.Cond.code ({ cls := "SofaDig$Craft$1", name := "carry", desc := "(LSofaDig$Sofa;I)Z" } : Jvm.MethodName) prog_5_method_2_code (3 : Nat) (Option.some Jvm.ClassFile.FieldType.boolean)) ∈ lw_all := lw_g (lw_at lw_m11 211 rfl) rfl
theorem q2727 : (Jvm.Cond.methodLink "SofaDig$Craft$1" (7 : Nat) ({ cls := "SofaDig$Sofa", name := "height", desc := "(I)I" } : Jvm.MethodName)) ∈ lw_all := lw_g (lw_at lw_m11 212 rfl) rfl
theorem q2728 : (Jvm.Cond.methodLink "SofaDig$Craft$1" (13 : Nat) ({ cls := "SofaDig$Sofa", name := "dig", desc := "(I)I" } : Jvm.MethodName)) ∈ lw_all := lw_g (lw_at lw_m11 213 rfl) rfl
theorem q2729 : (Jvm.Cond.selects "SofaDig$Craft$2" ({ cls := "SofaDig$Craft", name := "carry", desc := "(LSofaDig$Sofa;I)Z" } : Jvm.MethodName) ({ cls := "SofaDig$Craft$2", name := "carry", desc := "(LSofaDig$Sofa;I)Z" } : Jvm.MethodName)) ∈ lw_all := lw_g (lw_at lw_m11 214 rfl) rfl
theorem q2730 : (Jvm.Cond.instanceMethod ({ cls := "SofaDig$Craft$2", name := "carry", desc := "(LSofaDig$Sofa;I)Z" } : Jvm.MethodName)) ∈ lw_all := lw_g (lw_at lw_m11 215 rfl) rfl
theorem q2731 : (Jvm.Cond.code ({ cls := "SofaDig$Craft$2", name := "carry", desc := "(LSofaDig$Sofa;I)Z" } : Jvm.MethodName) prog_6_method_2_code (3 : Nat) (Option.some Jvm.ClassFile.FieldType.boolean)) ∈ lw_all := lw_g (lw_at lw_m11 216 rfl) rfl
theorem q2732 : (Jvm.Cond.methodLink "SofaDig$Craft$2" (7 : Nat) ({ cls := "SofaDig$Sofa", name := "prop", desc := "(I)Z" } : Jvm.MethodName)) ∈ lw_all := lw_g (lw_at lw_m11 217 rfl) rfl
theorem q2733 : (Jvm.Cond.selects "SofaDig$Craft$3" ({ cls := "SofaDig$Craft", name := "carry", desc := "(LSofaDig$Sofa;I)Z" } : Jvm.MethodName) ({ cls := "SofaDig$Craft$3", name := "carry", desc := "(LSofaDig$Sofa;I)Z" } : Jvm.MethodName)) ∈ lw_all := lw_g (lw_at lw_m11 218 rfl) rfl
theorem q2734 : (Jvm.Cond.instanceMethod ({ cls := "SofaDig$Craft$3", name := "carry", desc := "(LSofaDig$Sofa;I)Z" } : Jvm.MethodName)) ∈ lw_all := lw_g (lw_at lw_m11 219 rfl) rfl
theorem q2735 : (Jvm.Cond.code ({ cls := "SofaDig$Craft$3", name := "carry", desc := "(LSofaDig$Sofa;I)Z" } : Jvm.MethodName) prog_7_method_2_code (3 : Nat) (Option.some Jvm.ClassFile.FieldType.boolean)) ∈ lw_all := lw_g (lw_at lw_m11 220 rfl) rfl
theorem q2736 : (Jvm.Cond.methodLink "SofaDig$Craft$3" (7 : Nat) ({ cls := "SofaDig$Sofa", name := "isPropped", desc := "(I)Z" } : Jvm.MethodName)) ∈ lw_all := lw_g (lw_at lw_m11 221 rfl) rfl
theorem q2737 : (Jvm.Cond.methodLink "SofaDig$Craft$3" (13 : Nat) ({ cls := "SofaDig$Sofa", name := "free", desc := "(I)V" } : Jvm.MethodName)) ∈ lw_all := lw_g (lw_at lw_m11 222 rfl) rfl
/-! SofaDig$Craft$1.carry(LSofaDig$Sofa;I)Z -/
abbrev cX31_carry : ByteArray := prog_5_method_2_code
def yX31_carry : MethodName := ⟨RX31, "carry", "(LSofaDig$Sofa;I)Z"⟩
def dkwX31_carry_0 : List UInt8 := [43, 28, 182, 0, 7, 154, 0, 5, 3, 172, 43, 28, 182, 0, 13, 87, 4, 172]
abbrev dktX31_carry_0 : List UInt8 := dkwX31_carry_0 ++ []
theorem dksX31_carry_0 : cX31_carry.data.toList.drop 0 = dktX31_carry_0 := by decide +kernel
theorem dX31_carry_0 : decode cX31_carry 0 = .ok (.aload_n 1, 1) := dk_43 (dk_at dksX31_carry_0 0 rfl rfl)
theorem dX31_carry_1 : decode cX31_carry 1 = .ok (.iload_n 2, 1) := dk_28 (dk_at dksX31_carry_0 1 rfl rfl)
theorem dX31_carry_2 : decode cX31_carry 2 = .ok (.invokevirtual 7, 3) := dk_182 0 7 (dk_at dksX31_carry_0 2 rfl rfl)
theorem dX31_carry_5 : decode cX31_carry 5 = .ok (.ifCond .ne 5, 3) := dk_154 0 5 (dk_at dksX31_carry_0 5 rfl rfl)
theorem dX31_carry_8 : decode cX31_carry 8 = .ok (.iconst 0, 1) := dk_3 (dk_at dksX31_carry_0 8 rfl rfl)
theorem dX31_carry_9 : decode cX31_carry 9 = .ok (.ireturn, 1) := dk_172 (dk_at dksX31_carry_0 9 rfl rfl)
theorem dX31_carry_10 : decode cX31_carry 10 = .ok (.aload_n 1, 1) := dk_43 (dk_at dksX31_carry_0 10 rfl rfl)
theorem dX31_carry_11 : decode cX31_carry 11 = .ok (.iload_n 2, 1) := dk_28 (dk_at dksX31_carry_0 11 rfl rfl)
theorem dX31_carry_12 : decode cX31_carry 12 = .ok (.invokevirtual 13, 3) := dk_182 0 13 (dk_at dksX31_carry_0 12 rfl rfl)
theorem dX31_carry_15 : decode cX31_carry 15 = .ok (.pop, 1) := dk_87 (dk_at dksX31_carry_0 15 rfl rfl)
theorem dX31_carry_16 : decode cX31_carry 16 = .ok (.iconst 1, 1) := dk_4 (dk_at dksX31_carry_0 16 rfl rfl)
theorem dX31_carry_17 : decode cX31_carry 17 = .ok (.ireturn, 1) := dk_172 (dk_at dksX31_carry_0 17 rfl rfl)
abbrev mX31_carry : sd_Y := (yX31_carry, cX31_carry, 3, some (.boolean), none)
def fX31_carry (G : sd_G) (a0 : Nat) (a1 : Nat) (a2 : Int32) : sd_M Int32 :=
  sd_bnd (sd_isC G 2 a1) fun _ =>
  sd_bnd (fX3_height G a1 a2) fun r1 =>
  if r1 = 0 then (
    sd_ret 0)
  else (
    sd_bnd (sd_isC G 2 a1) fun _ =>
    sd_bnd (fX3_dig G a1 a2) fun r2 =>
    sd_ret 1)
set_option maxHeartbeats 4000000 in
theorem sX31_carry (l : Launch) (G : sd_G) (a0 : Nat) (a1 : Nat) (a2 : Int32) (h : sd_H) (ρ : Int32) (cT : Nat × Nat) (h2 : sd_H) (hf : fX31_carry G a0 a1 a2 h = some (ρ, cT, h2)) : sd_Met mX31_carry ((l, G), (9, 197), [.ref a0, .ref a1, .int a2], (sd_oI ρ, h2), cT) h := by
  refine sd_entry (plainFor_of_name rfl) rfl (Nat.le_of_ble_eq_true rfl) ?_
  show sd_J mX31_carry ((l, G), (9, 197), [.ref a0, .ref a1, .int a2], (sd_oI ρ, h2), cT) 0 [(0, .ref a0), (1, .ref a1), (2, .int a2)] [] h cT
  unfold fX31_carry at hf
  refine sj_aload_n 1 dX31_carry_0 rfl ?_
  refine sj_iload_n 2 dX31_carry_1 rfl ?_
  obtain ⟨fs2, he2, hf⟩ := sd_isC_some hf
  refine sj_cI (rest := []) (fun _ _ _ e => sj_runV (n := 1) (As := [.int a2]) (rest := []) (sX3_height l G a1 a2 h _ _ _ e) he2 rfl rfl rfl rfl q2727 q2155 q2156 q118 q2157 (by decide +kernel) rfl rfl ⟨Nat.le_of_ble_eq_true rfl, Nat.le_of_ble_eq_true rfl⟩ rfl (Nat.le_of_ble_eq_true rfl) dX31_carry_2) hf (fun r1 h c hf => ?_)
  refine sj_ifne 10 hf dX31_carry_5 (by decide) (fun g5 hf => ?_) (fun g5 hf => ?_)
  · refine sj_aload_n 1 dX31_carry_10 rfl ?_
    refine sj_iload_n 2 dX31_carry_11 rfl ?_
    obtain ⟨fs12, he12, hf⟩ := sd_isC_some hf
    refine sj_cI (rest := []) (fun _ _ _ e => sj_runV (n := 1) (As := [.int a2]) (rest := []) (sX3_dig l G a1 a2 h _ _ _ e) he12 rfl rfl rfl rfl q2728 q2236 q2237 q118 q2238 (by decide +kernel) rfl rfl ⟨Nat.le_of_ble_eq_true rfl, Nat.le_of_ble_eq_true rfl⟩ rfl (Nat.le_of_ble_eq_true rfl) dX31_carry_12) hf (fun r2 h c hf => ?_)
    refine sj_pop dX31_carry_15 rfl ?_
    refine sj_iconst (v := 1) dX31_carry_16 (by decide) ?_
    exact sj_zretC (o := sd_oI) (ty := .boolean) rfl hf rfl rfl rfl dX31_carry_17
  · refine sj_iconst (v := 0) dX31_carry_8 (by decide) ?_
    exact sj_zretC (o := sd_oI) (ty := .boolean) rfl hf rfl rfl rfl dX31_carry_9
/-! SofaDig$Craft$2.carry(LSofaDig$Sofa;I)Z -/
abbrev cX32_carry : ByteArray := prog_6_method_2_code
def yX32_carry : MethodName := ⟨RX32, "carry", "(LSofaDig$Sofa;I)Z"⟩
def dkwX32_carry_0 : List UInt8 := [43, 28, 182, 0, 7, 172]
abbrev dktX32_carry_0 : List UInt8 := dkwX32_carry_0 ++ []
theorem dksX32_carry_0 : cX32_carry.data.toList.drop 0 = dktX32_carry_0 := by decide +kernel
theorem dX32_carry_0 : decode cX32_carry 0 = .ok (.aload_n 1, 1) := dk_43 (dk_at dksX32_carry_0 0 rfl rfl)
theorem dX32_carry_1 : decode cX32_carry 1 = .ok (.iload_n 2, 1) := dk_28 (dk_at dksX32_carry_0 1 rfl rfl)
theorem dX32_carry_2 : decode cX32_carry 2 = .ok (.invokevirtual 7, 3) := dk_182 0 7 (dk_at dksX32_carry_0 2 rfl rfl)
theorem dX32_carry_5 : decode cX32_carry 5 = .ok (.ireturn, 1) := dk_172 (dk_at dksX32_carry_0 5 rfl rfl)
abbrev mX32_carry : sd_Y := (yX32_carry, cX32_carry, 3, some (.boolean), none)
def fX32_carry (G : sd_G) (a0 : Nat) (a1 : Nat) (a2 : Int32) : sd_M Int32 :=
  sd_bnd (sd_isC G 2 a1) fun _ =>
  sd_bnd (fX3_prop G a1 a2) fun r1 =>
  sd_retN .boolean r1
set_option maxHeartbeats 4000000 in
theorem sX32_carry (l : Launch) (G : sd_G) (a0 : Nat) (a1 : Nat) (a2 : Int32) (h : sd_H) (ρ : Int32) (cT : Nat × Nat) (h2 : sd_H) (hf : fX32_carry G a0 a1 a2 h = some (ρ, cT, h2)) : sd_Met mX32_carry ((l, G), (3, 64), [.ref a0, .ref a1, .int a2], (sd_oI ρ, h2), cT) h := by
  refine sd_entry (plainFor_of_name rfl) rfl (Nat.le_of_ble_eq_true rfl) ?_
  show sd_J mX32_carry ((l, G), (3, 64), [.ref a0, .ref a1, .int a2], (sd_oI ρ, h2), cT) 0 [(0, .ref a0), (1, .ref a1), (2, .int a2)] [] h cT
  unfold fX32_carry at hf
  refine sj_aload_n 1 dX32_carry_0 rfl ?_
  refine sj_iload_n 2 dX32_carry_1 rfl ?_
  obtain ⟨fs2, he2, hf⟩ := sd_isC_some hf
  refine sj_cI (rest := []) (fun _ _ _ e => sj_runV (n := 1) (As := [.int a2]) (rest := []) (sX3_prop l G a1 a2 h _ _ _ e) he2 rfl rfl rfl rfl q2732 q2563 q2564 q118 q2565 (by decide +kernel) rfl rfl ⟨Nat.le_of_ble_eq_true rfl, Nat.le_of_ble_eq_true rfl⟩ rfl (Nat.le_of_ble_eq_true rfl) dX32_carry_2) hf (fun r1 h c hf => ?_)
  exact sj_zret hf rfl rfl dX32_carry_5
/-! SofaDig$Craft$3.carry(LSofaDig$Sofa;I)Z -/
abbrev cX33_carry : ByteArray := prog_7_method_2_code
def yX33_carry : MethodName := ⟨RX33, "carry", "(LSofaDig$Sofa;I)Z"⟩
def dkwX33_carry_0 : List UInt8 := [43, 28, 182, 0, 7, 154, 0, 5, 3, 172, 43, 28, 182, 0, 13, 4, 172]
abbrev dktX33_carry_0 : List UInt8 := dkwX33_carry_0 ++ []
theorem dksX33_carry_0 : cX33_carry.data.toList.drop 0 = dktX33_carry_0 := by decide +kernel
theorem dX33_carry_0 : decode cX33_carry 0 = .ok (.aload_n 1, 1) := dk_43 (dk_at dksX33_carry_0 0 rfl rfl)
theorem dX33_carry_1 : decode cX33_carry 1 = .ok (.iload_n 2, 1) := dk_28 (dk_at dksX33_carry_0 1 rfl rfl)
theorem dX33_carry_2 : decode cX33_carry 2 = .ok (.invokevirtual 7, 3) := dk_182 0 7 (dk_at dksX33_carry_0 2 rfl rfl)
theorem dX33_carry_5 : decode cX33_carry 5 = .ok (.ifCond .ne 5, 3) := dk_154 0 5 (dk_at dksX33_carry_0 5 rfl rfl)
theorem dX33_carry_8 : decode cX33_carry 8 = .ok (.iconst 0, 1) := dk_3 (dk_at dksX33_carry_0 8 rfl rfl)
theorem dX33_carry_9 : decode cX33_carry 9 = .ok (.ireturn, 1) := dk_172 (dk_at dksX33_carry_0 9 rfl rfl)
theorem dX33_carry_10 : decode cX33_carry 10 = .ok (.aload_n 1, 1) := dk_43 (dk_at dksX33_carry_0 10 rfl rfl)
theorem dX33_carry_11 : decode cX33_carry 11 = .ok (.iload_n 2, 1) := dk_28 (dk_at dksX33_carry_0 11 rfl rfl)
theorem dX33_carry_12 : decode cX33_carry 12 = .ok (.invokevirtual 13, 3) := dk_182 0 13 (dk_at dksX33_carry_0 12 rfl rfl)
theorem dX33_carry_15 : decode cX33_carry 15 = .ok (.iconst 1, 1) := dk_4 (dk_at dksX33_carry_0 15 rfl rfl)
theorem dX33_carry_16 : decode cX33_carry 16 = .ok (.ireturn, 1) := dk_172 (dk_at dksX33_carry_0 16 rfl rfl)
abbrev mX33_carry : sd_Y := (yX33_carry, cX33_carry, 3, some (.boolean), none)
def fX33_carry (G : sd_G) (a0 : Nat) (a1 : Nat) (a2 : Int32) : sd_M Int32 :=
  sd_bnd (sd_isC G 2 a1) fun _ =>
  sd_bnd (fX3_isPropped G a1 a2) fun r1 =>
  if r1 = 0 then (
    sd_ret 0)
  else (
    sd_bnd (sd_isC G 2 a1) fun _ =>
    sd_bnd (fX3_free G a1 a2) fun _ =>
    sd_ret 1)
set_option maxHeartbeats 4000000 in
theorem sX33_carry (l : Launch) (G : sd_G) (a0 : Nat) (a1 : Nat) (a2 : Int32) (h : sd_H) (ρ : Int32) (cT : Nat × Nat) (h2 : sd_H) (hf : fX33_carry G a0 a1 a2 h = some (ρ, cT, h2)) : sd_Met mX33_carry ((l, G), (9, 196), [.ref a0, .ref a1, .int a2], (sd_oI ρ, h2), cT) h := by
  refine sd_entry (plainFor_of_name rfl) rfl (Nat.le_of_ble_eq_true rfl) ?_
  show sd_J mX33_carry ((l, G), (9, 196), [.ref a0, .ref a1, .int a2], (sd_oI ρ, h2), cT) 0 [(0, .ref a0), (1, .ref a1), (2, .int a2)] [] h cT
  unfold fX33_carry at hf
  refine sj_aload_n 1 dX33_carry_0 rfl ?_
  refine sj_iload_n 2 dX33_carry_1 rfl ?_
  obtain ⟨fs2, he2, hf⟩ := sd_isC_some hf
  refine sj_cI (rest := []) (fun _ _ _ e => sj_runV (n := 1) (As := [.int a2]) (rest := []) (sX3_isPropped l G a1 a2 h _ _ _ e) he2 rfl rfl rfl rfl q2736 q2147 q2148 q118 q2149 (by decide +kernel) rfl rfl ⟨Nat.le_of_ble_eq_true rfl, Nat.le_of_ble_eq_true rfl⟩ rfl (Nat.le_of_ble_eq_true rfl) dX33_carry_2) hf (fun r1 h c hf => ?_)
  refine sj_ifne 10 hf dX33_carry_5 (by decide) (fun g5 hf => ?_) (fun g5 hf => ?_)
  · refine sj_aload_n 1 dX33_carry_10 rfl ?_
    refine sj_iload_n 2 dX33_carry_11 rfl ?_
    obtain ⟨fs12, he12, hf⟩ := sd_isC_some hf
    refine sj_cV (rest := []) (fun _ _ _ e => sj_runV (n := 1) (As := [.int a2]) (rest := []) (sX3_free l G a1 a2 h _ _ _ e) he12 rfl rfl rfl rfl q2737 q2576 q2577 q118 q2578 (by decide +kernel) rfl rfl ⟨Nat.le_of_ble_eq_true rfl, Nat.le_of_ble_eq_true rfl⟩ rfl (Nat.le_of_ble_eq_true rfl) dX33_carry_12) hf (fun h c hf => ?_)
    refine sj_iconst (v := 1) dX33_carry_15 (by decide) ?_
    exact sj_zretC (o := sd_oI) (ty := .boolean) rfl hf rfl rfl rfl dX33_carry_16
  · refine sj_iconst (v := 0) dX33_carry_8 (by decide) ?_
    exact sj_zretC (o := sd_oI) (ty := .boolean) rfl hf rfl rfl rfl dX33_carry_9
/-! SofaDig$Sofa.pass(I)V -/
abbrev cX3_pass : ByteArray := prog_29_method_22_code
def yX3_pass : MethodName := ⟨RX3, "pass", "(I)V"⟩
def dkwX3_pass_4 : List UInt8 := [132, 2, 1, 167, 255, 162, 177]
abbrev dktX3_pass_4 : List UInt8 := dkwX3_pass_4 ++ []
def dkwX3_pass_3 : List UInt8 := [42, 89, 180, 0, 181, 4, 96, 181, 0, 181, 167, 255, 191, 42, 89, 180, 0, 184, 4, 96, 181, 0, 184]
abbrev dktX3_pass_3 : List UInt8 := dkwX3_pass_3 ++ dktX3_pass_4
def dkwX3_pass_2 : List UInt8 := [153, 0, 34, 25, 4, 180, 0, 164, 42, 42, 25, 4, 180, 0, 168, 182, 0, 172, 182, 0, 175, 153, 0, 13]
abbrev dktX3_pass_2 : List UInt8 := dkwX3_pass_2 ++ dktX3_pass_3
def dkwX3_pass_1 : List UInt8 := [45, 185, 0, 120, 1, 0, 192, 0, 152, 58, 4, 25, 4, 180, 0, 154, 42, 185, 0, 158, 2, 0]
abbrev dktX3_pass_1 : List UInt8 := dkwX3_pass_1 ++ dktX3_pass_2
def dkwX3_pass_0 : List UInt8 := [3, 61, 28, 27, 162, 0, 95, 42, 180, 0, 31, 182, 0, 110, 78, 45, 185, 0, 114, 1, 0, 153, 0, 62]
abbrev dktX3_pass_0 : List UInt8 := dkwX3_pass_0 ++ dktX3_pass_1
theorem dksX3_pass_0 : cX3_pass.data.toList.drop 0 = dktX3_pass_0 := by decide +kernel
theorem dksX3_pass_1 : cX3_pass.data.toList.drop 24 = dktX3_pass_1 := dk_seg dksX3_pass_0 24 rfl rfl
theorem dksX3_pass_2 : cX3_pass.data.toList.drop 46 = dktX3_pass_2 := dk_seg dksX3_pass_1 22 rfl rfl
theorem dksX3_pass_3 : cX3_pass.data.toList.drop 70 = dktX3_pass_3 := dk_seg dksX3_pass_2 24 rfl rfl
theorem dksX3_pass_4 : cX3_pass.data.toList.drop 93 = dktX3_pass_4 := dk_seg dksX3_pass_3 23 rfl rfl
theorem dX3_pass_0 : decode cX3_pass 0 = .ok (.iconst 0, 1) := dk_3 (dk_at dksX3_pass_0 0 rfl rfl)
theorem dX3_pass_1 : decode cX3_pass 1 = .ok (.istore_n 2, 1) := dk_61 (dk_at dksX3_pass_0 1 rfl rfl)
theorem dX3_pass_2 : decode cX3_pass 2 = .ok (.iload_n 2, 1) := dk_28 (dk_at dksX3_pass_0 2 rfl rfl)
theorem dX3_pass_3 : decode cX3_pass 3 = .ok (.iload_n 1, 1) := dk_27 (dk_at dksX3_pass_0 3 rfl rfl)
theorem dX3_pass_4 : decode cX3_pass 4 = .ok (.if_icmp .ge 95, 3) := dk_162 0 95 (dk_at dksX3_pass_0 4 rfl rfl)
theorem dX3_pass_7 : decode cX3_pass 7 = .ok (.aload_n 0, 1) := dk_42 (dk_at dksX3_pass_0 7 rfl rfl)
theorem dX3_pass_8 : decode cX3_pass 8 = .ok (.getfield 31, 3) := dk_180 0 31 (dk_at dksX3_pass_0 8 rfl rfl)
theorem dX3_pass_11 : decode cX3_pass 11 = .ok (.invokevirtual 110, 3) := dk_182 0 110 (dk_at dksX3_pass_0 11 rfl rfl)
theorem dX3_pass_14 : decode cX3_pass 14 = .ok (.astore_n 3, 1) := dk_78 (dk_at dksX3_pass_0 14 rfl rfl)
theorem dX3_pass_15 : decode cX3_pass 15 = .ok (.aload_n 3, 1) := dk_45 (dk_at dksX3_pass_0 15 rfl rfl)
theorem dX3_pass_16 : decode cX3_pass 16 = .ok (.invokeinterface 114 1, 5) := by decide +kernel
theorem dX3_pass_21 : decode cX3_pass 21 = .ok (.ifCond .eq 62, 3) := dk_153 0 62 (dk_at dksX3_pass_0 21 rfl rfl)
theorem dX3_pass_24 : decode cX3_pass 24 = .ok (.aload_n 3, 1) := dk_45 (dk_at dksX3_pass_1 0 rfl rfl)
theorem dX3_pass_25 : decode cX3_pass 25 = .ok (.invokeinterface 120 1, 5) := by decide +kernel
theorem dX3_pass_30 : decode cX3_pass 30 = .ok (.checkcast 152, 3) := dk_192 0 152 (dk_at dksX3_pass_1 6 rfl rfl)
theorem dX3_pass_33 : decode cX3_pass 33 = .ok (.astore 4, 2) := dk_58 4 (dk_at dksX3_pass_1 9 rfl rfl)
theorem dX3_pass_35 : decode cX3_pass 35 = .ok (.aload 4, 2) := dk_25 4 (dk_at dksX3_pass_1 11 rfl rfl)
theorem dX3_pass_37 : decode cX3_pass 37 = .ok (.getfield 154, 3) := dk_180 0 154 (dk_at dksX3_pass_1 13 rfl rfl)
theorem dX3_pass_40 : decode cX3_pass 40 = .ok (.aload_n 0, 1) := dk_42 (dk_at dksX3_pass_1 16 rfl rfl)
theorem dX3_pass_41 : decode cX3_pass 41 = .ok (.invokeinterface 158 2, 5) := by decide +kernel
theorem dX3_pass_46 : decode cX3_pass 46 = .ok (.ifCond .eq 34, 3) := dk_153 0 34 (dk_at dksX3_pass_2 0 rfl rfl)
theorem dX3_pass_49 : decode cX3_pass 49 = .ok (.aload 4, 2) := dk_25 4 (dk_at dksX3_pass_2 3 rfl rfl)
theorem dX3_pass_51 : decode cX3_pass 51 = .ok (.getfield 164, 3) := dk_180 0 164 (dk_at dksX3_pass_2 5 rfl rfl)
theorem dX3_pass_54 : decode cX3_pass 54 = .ok (.aload_n 0, 1) := dk_42 (dk_at dksX3_pass_2 8 rfl rfl)
theorem dX3_pass_55 : decode cX3_pass 55 = .ok (.aload_n 0, 1) := dk_42 (dk_at dksX3_pass_2 9 rfl rfl)
theorem dX3_pass_56 : decode cX3_pass 56 = .ok (.aload 4, 2) := dk_25 4 (dk_at dksX3_pass_2 10 rfl rfl)
theorem dX3_pass_58 : decode cX3_pass 58 = .ok (.getfield 168, 3) := dk_180 0 168 (dk_at dksX3_pass_2 12 rfl rfl)
theorem dX3_pass_61 : decode cX3_pass 61 = .ok (.invokevirtual 172, 3) := dk_182 0 172 (dk_at dksX3_pass_2 15 rfl rfl)
theorem dX3_pass_64 : decode cX3_pass 64 = .ok (.invokevirtual 175, 3) := dk_182 0 175 (dk_at dksX3_pass_2 18 rfl rfl)
theorem dX3_pass_67 : decode cX3_pass 67 = .ok (.ifCond .eq 13, 3) := dk_153 0 13 (dk_at dksX3_pass_2 21 rfl rfl)
theorem dX3_pass_70 : decode cX3_pass 70 = .ok (.aload_n 0, 1) := dk_42 (dk_at dksX3_pass_3 0 rfl rfl)
theorem dX3_pass_71 : decode cX3_pass 71 = .ok (.dup, 1) := dk_89 (dk_at dksX3_pass_3 1 rfl rfl)
theorem dX3_pass_72 : decode cX3_pass 72 = .ok (.getfield 181, 3) := dk_180 0 181 (dk_at dksX3_pass_3 2 rfl rfl)
theorem dX3_pass_75 : decode cX3_pass 75 = .ok (.iconst 1, 1) := dk_4 (dk_at dksX3_pass_3 5 rfl rfl)
theorem dX3_pass_76 : decode cX3_pass 76 = .ok (.iadd, 1) := dk_96 (dk_at dksX3_pass_3 6 rfl rfl)
theorem dX3_pass_77 : decode cX3_pass 77 = .ok (.putfield 181, 3) := dk_181 0 181 (dk_at dksX3_pass_3 7 rfl rfl)
theorem dX3_pass_80 : decode cX3_pass 80 = .ok (.goto (-65), 3) := dk_167 255 191 (dk_at dksX3_pass_3 10 rfl rfl)
theorem dX3_pass_83 : decode cX3_pass 83 = .ok (.aload_n 0, 1) := dk_42 (dk_at dksX3_pass_3 13 rfl rfl)
theorem dX3_pass_84 : decode cX3_pass 84 = .ok (.dup, 1) := dk_89 (dk_at dksX3_pass_3 14 rfl rfl)
theorem dX3_pass_85 : decode cX3_pass 85 = .ok (.getfield 184, 3) := dk_180 0 184 (dk_at dksX3_pass_3 15 rfl rfl)
theorem dX3_pass_88 : decode cX3_pass 88 = .ok (.iconst 1, 1) := dk_4 (dk_at dksX3_pass_3 18 rfl rfl)
theorem dX3_pass_89 : decode cX3_pass 89 = .ok (.iadd, 1) := dk_96 (dk_at dksX3_pass_3 19 rfl rfl)
theorem dX3_pass_90 : decode cX3_pass 90 = .ok (.putfield 184, 3) := dk_181 0 184 (dk_at dksX3_pass_3 20 rfl rfl)
theorem dX3_pass_93 : decode cX3_pass 93 = .ok (.iinc 2 1, 3) := dk_132 2 1 (dk_at dksX3_pass_4 0 rfl rfl)
theorem dX3_pass_96 : decode cX3_pass 96 = .ok (.goto (-94), 3) := dk_167 255 162 (dk_at dksX3_pass_4 3 rfl rfl)
theorem dX3_pass_99 : decode cX3_pass 99 = .ok (.return_, 1) := dk_177 (dk_at dksX3_pass_4 6 rfl rfl)
theorem fc_SofaDig_Order : sd_Fc [17] "SofaDig$Order" := fun ci r hm hc => by
  simp only [List.mem_cons, List.not_mem_nil, or_false] at hm
  rcases hm with rfl
  · cases hc; exact Or.inl rfl
theorem fdX3_154_17 : sd_Fd "SofaDig$Sofa" 154 17 2 := ⟨(RX19, TX19, 3), "SofaDig$Order", rfl, by decide, rfl, in_X19, Or.inl rfl, Or.inr ⟨_, q2080⟩⟩
theorem fdX3_164_17 : sd_Fd "SofaDig$Sofa" 164 17 0 := ⟨(RX19, TX19, 3), "SofaDig$Order", rfl, by decide, rfl, in_X19, Or.inl rfl, Or.inr ⟨_, q2076⟩⟩
theorem fdX3_168_17 : sd_Fd "SofaDig$Sofa" 168 17 1 := ⟨(RX19, TX19, 3), "SofaDig$Order", rfl, by decide, rfl, in_X19, Or.inl rfl, Or.inr ⟨_, q2078⟩⟩
abbrev mX3_pass : sd_Y := (yX3_pass, cX3_pass, 5, none, none)
def fX3_pass_b15 (G : sd_G) (k2 : Nat × Int32 × Int32 → sd_M Unit) (k15 : Nat × Int32 × Int32 × Nat → sd_M Unit) (w0 : Nat) (w1 : Int32) (w2 : Int32) (w3 : Nat) : sd_M Unit :=
  sd_bnd (sd_isC G 42 w3) fun _ =>
  sd_bnd (fJ31_hasNext G w3) fun r3 =>
  if r3 = 0 then (
    sd_bnd (sd_getI G 2 8 w0) fun v4 =>
    sd_bnd (sd_put 2 8 .int w0 (.int (v4 + 1))) fun _ =>
    sd_bnd (sd_ret (w2 + 1)) fun x5 =>
    k2 (w0, w1, x5))
  else (
    sd_bnd (sd_isC G 42 w3) fun _ =>
    sd_bnd (fJ31_next G w3) fun r6 =>
    sd_bnd (sd_cast G [17] r6) fun _ =>
    sd_bnd (sd_getR G 17 2 r6) fun v7 =>
    sd_bnd (sd_bnd (sd_cls G v7) fun k41 => if k41 = 18 then (pRT G 40).1 v7 w0 else if k41 = 19 then (pRT G 40).2 v7 w0 else if k41 = 20 then fX22_holds G v7 w0 else if k41 = 21 then fX23_holds G v7 w0 else if k41 = 22 then fX24_holds G v7 w0 else if k41 = 23 then fX26_holds G v7 w0 else sd_fail) fun r8 =>
    if r8 = 0 then (
      k15 (w0, w1, w2, w3))
    else (
      sd_bnd (sd_getR G 17 0 r6) fun v9 =>
      sd_bnd (sd_getR G 17 1 r6) fun v10 =>
      sd_bnd (sd_isC G 2 w0) fun _ =>
      sd_bnd ((pRS G 450).2.2.2.2.2 w0 v10) fun r11 =>
      sd_bnd (sd_bnd (sd_cls G v9) fun k64 => if k64 = 30 then fX31_carry G v9 w0 r11 else if k64 = 31 then fX32_carry G v9 w0 r11 else if k64 = 32 then fX33_carry G v9 w0 r11 else sd_fail) fun r12 =>
      if r12 = 0 then (
        k15 (w0, w1, w2, w3))
      else (
        sd_bnd (sd_getI G 2 9 w0) fun v13 =>
        sd_bnd (sd_put 2 9 .int w0 (.int (v13 + 1))) fun _ =>
        k15 (w0, w1, w2, w3))))
set_option maxHeartbeats 4000000 in
theorem sX3_pass_b15 (l : Launch) (G : sd_G) (a0 : Nat) (a1 : Int32) (ρ : Unit) (h2 : sd_H) (cT : Nat × Nat) (k2 : Nat × Int32 × Int32 → sd_M Unit) (Hk2 : ∀ (q : Nat × Int32 × Int32) (h : sd_H) (c : Nat × Nat), k2 q h = some (ρ, c, h2) → sd_J mX3_pass ((l, G), (505, 15203), [.ref a0, .int a1], (sd_oV ρ, h2), cT) 2 [(0, .ref q.1), (1, .int q.2.1), (2, .int q.2.2)] [] h c) (k15 : Nat × Int32 × Int32 × Nat → sd_M Unit) (Hk15 : ∀ (q : Nat × Int32 × Int32 × Nat) (h : sd_H) (c : Nat × Nat), k15 q h = some (ρ, c, h2) → sd_J mX3_pass ((l, G), (505, 15203), [.ref a0, .int a1], (sd_oV ρ, h2), cT) 15 [(0, .ref q.1), (1, .int q.2.1), (2, .int q.2.2.1), (3, .ref q.2.2.2)] [] h c) (w0 : Nat) (w1 : Int32) (w2 : Int32) (w3 : Nat) (h : sd_H) (c : Nat × Nat) (hf : fX3_pass_b15 G k2 k15 w0 w1 w2 w3 h = some (ρ, c, h2)) : sd_J mX3_pass ((l, G), (505, 15203), [.ref a0, .int a1], (sd_oV ρ, h2), cT) 15 [(0, .ref w0), (1, .int w1), (2, .int w2), (3, .ref w3)] [] h c := by
  unfold fX3_pass_b15 at hf
  refine sj_aload_n 3 dX3_pass_15 rfl ?_
  obtain ⟨fs16, he16, hf⟩ := sd_isC_some hf
  refine sj_cI (rest := []) (fun _ _ _ e => sj_runF (n := 0) 9 (As := []) (rest := []) (sJ31_hasNext l G w3 h _ _ _ e) he16 rfl rfl rfl rfl rfl q2191 q2195 q2197 q181 q2199 (by decide +kernel) rfl rfl (fun _ z => by cases z) ⟨Nat.le_of_ble_eq_true rfl, Nat.le_of_ble_eq_true rfl⟩ rfl (Nat.le_of_ble_eq_true rfl) dX3_pass_16) hf (fun r3 h c hf => ?_)
  refine sj_ifeq 83 hf dX3_pass_21 (by decide) (fun g21 hf => ?_) (fun g21 hf => ?_)
  · refine sj_aload_n 0 dX3_pass_83 rfl ?_
    refine sj_dup dX3_pass_84 rfl ?_
    refine sj_getI fdX3_184_2 hf dX3_pass_85 (fun v4 hf => ?_)
    refine sj_iconst (v := 1) dX3_pass_88 (by decide) ?_
    refine sj_iadd dX3_pass_89 ?_
    refine sj_put (fpX3_184_2 _ _) hf dX3_pass_90 (fun h hf => ?_)
    refine sj_iincN 2 (fun x5 => [(2, .int x5), (0, .ref w0), (1, .int w1), (3, .ref w3)]) 1 hf dX3_pass_93 rfl (by decide) (by decide) (fun _ => rfl) (fun x5 hf => ?_)
    refine sj_goto 2 dX3_pass_96 (by decide) ?_
    exact sj_loc [1, 2, 0] rfl (Hk2 (w0, w1, x5) _ _ hf)
  · refine sj_aload_n 3 dX3_pass_24 rfl ?_
    obtain ⟨fs25, he25, hf⟩ := sd_isC_some hf
    refine sj_cR (rest := []) (fun _ _ _ e => sj_runF (n := 0) 10 (As := []) (rest := []) (sJ31_next l G w3 h _ _ _ e) he25 rfl rfl rfl rfl rfl q2201 q2204 q2206 q181 q2208 (by decide +kernel) rfl rfl (fun _ z => by cases z) ⟨Nat.le_of_ble_eq_true rfl, Nat.le_of_ble_eq_true rfl⟩ rfl (Nat.le_of_ble_eq_true rfl) dX3_pass_25) hf (fun r6 h c hf => ?_)
    obtain ⟨ci30, fs30, he30, hm30, hf⟩ := sd_cast_some hf
    refine sj_cast he30 hm30 fc_SofaDig_Order q2590 dX3_pass_30 ?_
    refine sj_astore [(4, .ref r6), (0, .ref w0), (1, .int w1), (2, .int w2), (3, .ref w3)] dX3_pass_33 (by decide) rfl ?_
    refine sj_aload 0 dX3_pass_35 rfl ?_
    refine sj_getR fdX3_154_17 hf dX3_pass_37 (fun v7 hf => ?_)
    refine sj_aload_n 1 dX3_pass_40 rfl ?_
    refine sj_cI (rest := []) (fun _ _ _ e => by
      obtain ⟨ci41, fs41, he41, e⟩ := sd_cls_some e
      by_cases z41_18 : ci41 = 18
      · rw [if_pos z41_18] at e; subst z41_18; exact sj_runF (n := 1) 0 (As := [.ref w0]) (rest := []) ((spRT l G 40).1 v7 w0 h _ _ _ e) he41 rfl rfl rfl rfl rfl q2592 q2696 q2698 q172 q2700 (by decide +kernel) rfl rfl (fun _ z => by cases z) ⟨Nat.le_of_ble_eq_true rfl, Nat.le_of_ble_eq_true rfl⟩ rfl (Nat.le_of_ble_eq_true rfl) dX3_pass_41
      rw [if_neg z41_18] at e
      by_cases z41_19 : ci41 = 19
      · rw [if_pos z41_19] at e; subst z41_19; exact sj_runF (n := 1) 1 (As := [.ref w0]) (rest := []) ((spRT l G 40).2 v7 w0 h _ _ _ e) he41 rfl rfl rfl rfl rfl q2592 q2681 q2683 q173 q2685 (by decide +kernel) rfl rfl (fun _ z => by cases z) ⟨Nat.le_of_ble_eq_true rfl, Nat.le_of_ble_eq_true rfl⟩ rfl (Nat.le_of_ble_eq_true rfl) dX3_pass_41
      rw [if_neg z41_19] at e
      by_cases z41_20 : ci41 = 20
      · rw [if_pos z41_20] at e; subst z41_20; exact sj_runF (n := 1) 2 (As := [.ref w0]) (rest := []) (sX22_holds l G v7 w0 h _ _ _ e) he41 rfl rfl rfl rfl rfl q2592 q2689 q2691 q174 q2693 (by decide +kernel) rfl rfl (fun _ z => by cases z) ⟨Nat.le_of_ble_eq_true rfl, Nat.le_of_ble_eq_true rfl⟩ rfl (Nat.le_of_ble_eq_true rfl) dX3_pass_41
      rw [if_neg z41_20] at e
      by_cases z41_21 : ci41 = 21
      · rw [if_pos z41_21] at e; subst z41_21; exact sj_runF (n := 1) 3 (As := [.ref w0]) (rest := []) (sX23_holds l G v7 w0 h _ _ _ e) he41 rfl rfl rfl rfl rfl q2592 q2707 q2709 q175 q2711 (by decide +kernel) rfl rfl (fun _ z => by cases z) ⟨Nat.le_of_ble_eq_true rfl, Nat.le_of_ble_eq_true rfl⟩ rfl (Nat.le_of_ble_eq_true rfl) dX3_pass_41
      rw [if_neg z41_21] at e
      by_cases z41_22 : ci41 = 22
      · rw [if_pos z41_22] at e; subst z41_22; exact sj_runF (n := 1) 4 (As := [.ref w0]) (rest := []) (sX24_holds l G v7 w0 h _ _ _ e) he41 rfl rfl rfl rfl rfl q2592 q2596 q2598 q176 q2600 (by decide +kernel) rfl rfl (fun _ z => by cases z) ⟨Nat.le_of_ble_eq_true rfl, Nat.le_of_ble_eq_true rfl⟩ rfl (Nat.le_of_ble_eq_true rfl) dX3_pass_41
      rw [if_neg z41_22] at e
      by_cases z41_23 : ci41 = 23
      · rw [if_pos z41_23] at e; subst z41_23; exact sj_runF (n := 1) 5 (As := [.ref w0]) (rest := []) (sX26_holds l G v7 w0 h _ _ _ e) he41 rfl rfl rfl rfl rfl q2592 q2715 q2717 q178 q2719 (by decide +kernel) rfl rfl (fun _ z => by cases z) ⟨Nat.le_of_ble_eq_true rfl, Nat.le_of_ble_eq_true rfl⟩ rfl (Nat.le_of_ble_eq_true rfl) dX3_pass_41
      rw [if_neg z41_23] at e
      cases e) hf (fun r8 h c hf => ?_)
    refine sj_ifeq 80 hf dX3_pass_46 (by decide) (fun g46 hf => ?_) (fun g46 hf => ?_)
    · refine sj_goto 15 dX3_pass_80 (by decide) ?_
      exact sj_loc [1, 2, 3, 4] rfl (Hk15 (w0, w1, w2, w3) _ _ hf)
    · refine sj_aload 0 dX3_pass_49 rfl ?_
      refine sj_getR fdX3_164_17 hf dX3_pass_51 (fun v9 hf => ?_)
      refine sj_aload_n 1 dX3_pass_54 rfl ?_
      refine sj_aload_n 1 dX3_pass_55 rfl ?_
      refine sj_aload 0 dX3_pass_56 rfl ?_
      refine sj_getR fdX3_168_17 hf dX3_pass_58 (fun v10 hf => ?_)
      obtain ⟨fs61, he61, hf⟩ := sd_isC_some hf
      refine sj_cI (rest := [.ref w0, .ref v9]) (fun _ _ _ e => sj_runV (n := 1) (As := [.ref v10]) (rest := [.ref w0, .ref v9]) ((spRS l G 450).2.2.2.2.2 w0 v10 h _ _ _ e) he61 rfl rfl rfl rfl q2720 q2638 q2639 q118 q2640 (by decide +kernel) rfl rfl ⟨Nat.le_of_ble_eq_true rfl, Nat.le_of_ble_eq_true rfl⟩ rfl (Nat.le_of_ble_eq_true rfl) dX3_pass_61) hf (fun r11 h c hf => ?_)
      refine sj_cI (rest := []) (fun _ _ _ e => by
        obtain ⟨ci64, fs64, he64, e⟩ := sd_cls_some e
        by_cases z64_30 : ci64 = 30
        · rw [if_pos z64_30] at e; subst z64_30; exact sj_runZ (n := 2) (owner := "SofaDig$Craft") (As := [.ref w0, .int r11]) (rest := []) (sX31_carry l G v9 w0 r11 h _ _ _ e) he64 rfl rfl rfl q2721 q2723 q2724 q2725 q2726 q2722 (by decide +kernel) rfl rfl ⟨Nat.le_of_ble_eq_true rfl, Nat.le_of_ble_eq_true rfl⟩ rfl (Nat.le_of_ble_eq_true rfl) dX3_pass_64
        rw [if_neg z64_30] at e
        by_cases z64_31 : ci64 = 31
        · rw [if_pos z64_31] at e; subst z64_31; exact sj_runZ (n := 2) (owner := "SofaDig$Craft") (As := [.ref w0, .int r11]) (rest := []) (sX32_carry l G v9 w0 r11 h _ _ _ e) he64 rfl rfl rfl q2721 q2723 q2729 q2730 q2731 q2722 (by decide +kernel) rfl rfl ⟨Nat.le_of_ble_eq_true rfl, Nat.le_of_ble_eq_true rfl⟩ rfl (Nat.le_of_ble_eq_true rfl) dX3_pass_64
        rw [if_neg z64_31] at e
        by_cases z64_32 : ci64 = 32
        · rw [if_pos z64_32] at e; subst z64_32; exact sj_runZ (n := 2) (owner := "SofaDig$Craft") (As := [.ref w0, .int r11]) (rest := []) (sX33_carry l G v9 w0 r11 h _ _ _ e) he64 rfl rfl rfl q2721 q2723 q2733 q2734 q2735 q2722 (by decide +kernel) rfl rfl ⟨Nat.le_of_ble_eq_true rfl, Nat.le_of_ble_eq_true rfl⟩ rfl (Nat.le_of_ble_eq_true rfl) dX3_pass_64
        rw [if_neg z64_32] at e
        cases e) hf (fun r12 h c hf => ?_)
      refine sj_ifeq 80 hf dX3_pass_67 (by decide) (fun g67 hf => ?_) (fun g67 hf => ?_)
      · refine sj_goto 15 dX3_pass_80 (by decide) ?_
        exact sj_loc [1, 2, 3, 4] rfl (Hk15 (w0, w1, w2, w3) _ _ hf)
      · refine sj_aload_n 1 dX3_pass_70 rfl ?_
        refine sj_dup dX3_pass_71 rfl ?_
        refine sj_getI fdX3_181_2 hf dX3_pass_72 (fun v13 hf => ?_)
        refine sj_iconst (v := 1) dX3_pass_75 (by decide) ?_
        refine sj_iadd dX3_pass_76 ?_
        refine sj_put (fpX3_181_2 _ _) hf dX3_pass_77 (fun h hf => ?_)
        refine sj_goto 15 dX3_pass_80 (by decide) ?_
        exact sj_loc [1, 2, 3, 4] rfl (Hk15 (w0, w1, w2, w3) _ _ hf)
theorem sX3_pass_b15_loop (l : Launch) (G : sd_G) (a0 : Nat) (a1 : Int32) (ρ : Unit) (h2 : sd_H) (cT : Nat × Nat) (k2 : Nat × Int32 × Int32 → sd_M Unit) (Hk2 : ∀ (q : Nat × Int32 × Int32) (h : sd_H) (c : Nat × Nat), k2 q h = some (ρ, c, h2) → sd_J mX3_pass ((l, G), (505, 15203), [.ref a0, .int a1], (sd_oV ρ, h2), cT) 2 [(0, .ref q.1), (1, .int q.2.1), (2, .int q.2.2)] [] h c) (n : Nat) : ∀ (q : Nat × Int32 × Int32 × Nat) (h : sd_H) (c : Nat × Nat), sd_loop (fun k s => fX3_pass_b15 G k2 k s.1 s.2.1 s.2.2.1 s.2.2.2) n q h = some (ρ, c, h2) → sd_J mX3_pass ((l, G), (505, 15203), [.ref a0, .int a1], (sd_oV ρ, h2), cT) 15 [(0, .ref q.1), (1, .int q.2.1), (2, .int q.2.2.1), (3, .ref q.2.2.2)] [] h c := by
  induction n with
  | zero => intro q h c hf; cases hf
  | succ n ih => intro q h c hf; exact sX3_pass_b15 l G a0 a1 ρ h2 cT k2 Hk2 _ ih _ _ _ _ _ _ hf
def fX3_pass_b2 (G : sd_G) (k2 : Nat × Int32 × Int32 → sd_M Unit) (w0 : Nat) (w1 : Int32) (w2 : Int32) : sd_M Unit :=
  if w1 ≤ w2 then (
    sd_ret ())
  else (
    sd_bnd (sd_getR G 2 5 w0) fun v1 =>
    sd_bnd (sd_isC G 41 v1) fun _ =>
    sd_bnd (fJ2_iterator G v1) fun r2 =>
    sd_loop (fun k s => fX3_pass_b15 G k2 k s.1 s.2.1 s.2.2.1 s.2.2.2) sd_FU (w0, w1, w2, r2))
set_option maxHeartbeats 4000000 in
theorem sX3_pass_b2 (l : Launch) (G : sd_G) (a0 : Nat) (a1 : Int32) (ρ : Unit) (h2 : sd_H) (cT : Nat × Nat) (k2 : Nat × Int32 × Int32 → sd_M Unit) (Hk2 : ∀ (q : Nat × Int32 × Int32) (h : sd_H) (c : Nat × Nat), k2 q h = some (ρ, c, h2) → sd_J mX3_pass ((l, G), (505, 15203), [.ref a0, .int a1], (sd_oV ρ, h2), cT) 2 [(0, .ref q.1), (1, .int q.2.1), (2, .int q.2.2)] [] h c) (w0 : Nat) (w1 : Int32) (w2 : Int32) (h : sd_H) (c : Nat × Nat) (hf : fX3_pass_b2 G k2 w0 w1 w2 h = some (ρ, c, h2)) : sd_J mX3_pass ((l, G), (505, 15203), [.ref a0, .int a1], (sd_oV ρ, h2), cT) 2 [(0, .ref w0), (1, .int w1), (2, .int w2)] [] h c := by
  unfold fX3_pass_b2 at hf
  refine sj_iload_n 2 dX3_pass_2 rfl ?_
  refine sj_iload_n 1 dX3_pass_3 rfl ?_
  refine sj_icge 99 hf dX3_pass_4 (by decide) (fun g4 hf => ?_) (fun g4 hf => ?_)
  · exact sj_vret (o := sd_oV) hf rfl rfl rfl dX3_pass_99
  · refine sj_aload_n 0 dX3_pass_7 rfl ?_
    refine sj_getR fdX3_31_2 hf dX3_pass_8 (fun v1 hf => ?_)
    obtain ⟨fs11, he11, hf⟩ := sd_isC_some hf
    refine sj_cR (rest := []) (fun _ _ _ e => sj_runV (n := 0) (As := []) (rest := []) (sJ2_iterator l G v1 h _ _ _ e) he11 rfl rfl rfl rfl q2167 q2168 q2169 q121 q2170 (by decide +kernel) rfl rfl ⟨Nat.le_of_ble_eq_true rfl, Nat.le_of_ble_eq_true rfl⟩ rfl (Nat.le_of_ble_eq_true rfl) dX3_pass_11) hf (fun r2 h c hf => ?_)
    refine sj_astore_n [(3, .ref r2), (0, .ref w0), (1, .int w1), (2, .int w2)] dX3_pass_14 (by decide) rfl ?_
    exact sj_loc [1, 2, 3, 0] rfl (sX3_pass_b15_loop l G a0 a1 ρ h2 cT k2 Hk2 sd_FU (w0, w1, w2, r2) _ _ hf)
theorem sX3_pass_b2_loop (l : Launch) (G : sd_G) (a0 : Nat) (a1 : Int32) (ρ : Unit) (h2 : sd_H) (cT : Nat × Nat) (n : Nat) : ∀ (q : Nat × Int32 × Int32) (h : sd_H) (c : Nat × Nat), sd_loop (fun k s => fX3_pass_b2 G k s.1 s.2.1 s.2.2) n q h = some (ρ, c, h2) → sd_J mX3_pass ((l, G), (505, 15203), [.ref a0, .int a1], (sd_oV ρ, h2), cT) 2 [(0, .ref q.1), (1, .int q.2.1), (2, .int q.2.2)] [] h c := by
  induction n with
  | zero => intro q h c hf; cases hf
  | succ n ih => intro q h c hf; exact sX3_pass_b2 l G a0 a1 ρ h2 cT _ ih _ _ _ _ _ hf
def fX3_pass (G : sd_G) (a0 : Nat) (a1 : Int32) : sd_M Unit :=
  sd_loop (fun k s => fX3_pass_b2 G k s.1 s.2.1 s.2.2) sd_FU (a0, a1, 0)
set_option maxHeartbeats 4000000 in
theorem sX3_pass (l : Launch) (G : sd_G) (a0 : Nat) (a1 : Int32) (h : sd_H) (ρ : Unit) (cT : Nat × Nat) (h2 : sd_H) (hf : fX3_pass G a0 a1 h = some (ρ, cT, h2)) : sd_Met mX3_pass ((l, G), (505, 15203), [.ref a0, .int a1], (sd_oV ρ, h2), cT) h := by
  refine sd_entry (plainFor_of_name rfl) rfl (Nat.le_of_ble_eq_true rfl) ?_
  show sd_J mX3_pass ((l, G), (505, 15203), [.ref a0, .int a1], (sd_oV ρ, h2), cT) 0 [(0, .ref a0), (1, .int a1)] [] h cT
  unfold fX3_pass at hf
  refine sj_iconst (v := 0) dX3_pass_0 (by decide) ?_
  refine sj_istore_n [(2, .int 0), (0, .ref a0), (1, .int a1)] dX3_pass_1 (by decide) rfl ?_
  exact sj_loc [1, 2, 0] rfl (sX3_pass_b2_loop l G a0 a1 ρ h2 cT sd_FU (a0, a1, 0) _ _ hf)
