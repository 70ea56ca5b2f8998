set_option maxRecDepth 100000
theorem q171 : (Jvm.Cond.initialized "SofaDig$Order") ∈ lw_all := lw_g (lw_at lw_m1 56 rfl) rfl
theorem q177 : (Jvm.Cond.initialized "SofaDig$Test") ∈ lw_all := lw_g (lw_at lw_m1 62 rfl) rfl
theorem q260 : (Jvm.Cond.fieldLinkNest "SofaDig$Reader" (238 : Nat) "SofaDig$Sofa" "orders" "Ljava/util/ArrayList;" "SofaDig") ∈ lw_tbl := lw_at lw_m1 145 rfl
theorem q302 : (Jvm.Cond.instanceMethod ({ cls := "SofaDig$Sofa", name := "lay", desc := "()LSofaDig$Sofa;" } : Jvm.MethodName)) ∈ lw_all := lw_g (lw_at lw_m1 187 rfl) rfl
theorem q303 : (Jvm.Cond.selects "SofaDig$Sofa" ({ cls := "SofaDig$Sofa", name := "lay", desc := "()LSofaDig$Sofa;" } : Jvm.MethodName) ({ cls := "SofaDig$Sofa", name := "lay", desc := "()LSofaDig$Sofa;" } : Jvm.MethodName)) ∈ lw_all := lw_g (lw_at lw_m1 188 rfl) rfl
theorem q981 : (Jvm.Cond.code ({ cls := "SofaDig$Reader", name := "read", desc := "()LSofaDig$Sofa;" } : Jvm.MethodName) prog_18_method_9_code (1 : Nat) (Option.some (Jvm.ClassFile.FieldType.object "SofaDig$Sofa"))) ∈ lw_all := lw_g (lw_at lw_m4 146 rfl) rfl
theorem q982 : (Jvm.Cond.methodLink "SofaDig$Reader" (73 : Nat) ({ cls := "SofaDig$Reader", name := "sofa", desc := "()V" } : Jvm.MethodName)) ∈ lw_all := lw_g (lw_at lw_m4 147 rfl) rfl
theorem q984 : (Jvm.Cond.instanceMethod ({ cls := "SofaDig$Reader", name := "sofa", desc := "()V" } : Jvm.MethodName)) ∈ lw_all := lw_g (lw_at lw_m4 149 rfl) rfl
theorem q985 : (Jvm.Cond.code ({ cls := "SofaDig$Reader", name := "sofa", desc := "()V" } : Jvm.MethodName) prog_18_method_15_code (1 : Nat) (Option.none : Option Jvm.ClassFile.FieldType)) ∈ lw_all := lw_g (lw_at lw_m4 150 rfl) rfl
theorem q1090 : (Jvm.Cond.methodLink "SofaDig$Reader" (143 : Nat) ({ cls := "SofaDig$Sofa", name := "lay", desc := "()LSofaDig$Sofa;" } : Jvm.MethodName)) ∈ lw_all := lw_g (lw_at lw_m5 15 rfl) rfl
theorem q1091 : (Jvm.Cond.fieldLink "SofaDig$Reader" (147 : Nat) "SofaDig$Sort" "END" "LSofaDig$Sort;") ∈ lw_all := lw_g (lw_at lw_m5 16 rfl) rfl
theorem q1092 : (Jvm.Cond.methodLink "SofaDig$Reader" (150 : Nat) ({ cls := "SofaDig$Reader", name := "line", desc := "()V" } : Jvm.MethodName)) ∈ lw_all := lw_g (lw_at lw_m5 17 rfl) rfl
theorem q1094 : (Jvm.Cond.instanceMethod ({ cls := "SofaDig$Reader", name := "line", desc := "()V" } : Jvm.MethodName)) ∈ lw_all := lw_g (lw_at lw_m5 19 rfl) rfl
theorem q1095 : (Jvm.Cond.code ({ cls := "SofaDig$Reader", name := "line", desc := "()V" } : Jvm.MethodName) prog_18_method_17_code (2 : Nat) (Option.none : Option Jvm.ClassFile.FieldType)) ∈ lw_all := lw_g (lw_at lw_m5 20 rfl) rfl
theorem q1097 : (Jvm.Cond.methodLink "SofaDig$Reader" (155 : Nat) ({ cls := "SofaDig$Reader", name := "empire", desc := "()V" } : Jvm.MethodName)) ∈ lw_all := lw_g (lw_at lw_m5 22 rfl) rfl
theorem q1099 : (Jvm.Cond.instanceMethod ({ cls := "SofaDig$Reader", name := "empire", desc := "()V" } : Jvm.MethodName)) ∈ lw_all := lw_g (lw_at lw_m5 24 rfl) rfl
theorem q1803 : (Jvm.Cond.methodLink "SofaDig$Reader" (159 : Nat) ({ cls := "SofaDig$Reader", name := "find", desc := "(LSofaDig$Token;Z)V" } : Jvm.MethodName)) ∈ lw_all := lw_g (lw_at lw_m8 8 rfl) rfl
theorem q1805 : (Jvm.Cond.instanceMethod ({ cls := "SofaDig$Reader", name := "find", desc := "(LSofaDig$Token;Z)V" } : Jvm.MethodName)) ∈ lw_all := lw_g (lw_at lw_m8 10 rfl) rfl
theorem q1854 : (Jvm.Cond.methodLink "SofaDig$Reader" (176 : Nat) ({ cls := "SofaDig$Reader", name := "order", desc := "()V" } : Jvm.MethodName)) ∈ lw_all := lw_g (lw_at lw_m8 59 rfl) rfl
theorem q1856 : (Jvm.Cond.instanceMethod ({ cls := "SofaDig$Reader", name := "order", desc := "()V" } : Jvm.MethodName)) ∈ lw_all := lw_g (lw_at lw_m8 61 rfl) rfl
theorem q1857 : (Jvm.Cond.code ({ cls := "SofaDig$Reader", name := "order", desc := "()V" } : Jvm.MethodName) prog_18_method_21_code (4 : Nat) (Option.none : Option Jvm.ClassFile.FieldType)) ∈ lw_all := lw_g (lw_at lw_m8 62 rfl) rfl
theorem q1858 : (Jvm.Cond.methodLink "SofaDig$Reader" (234 : Nat) ({ cls := "SofaDig$Reader", name := "craft", desc := "()LSofaDig$Craft;" } : Jvm.MethodName)) ∈ lw_all := lw_g (lw_at lw_m8 63 rfl) rfl
theorem q1860 : (Jvm.Cond.instanceMethod ({ cls := "SofaDig$Reader", name := "craft", desc := "()LSofaDig$Craft;" } : Jvm.MethodName)) ∈ lw_all := lw_g (lw_at lw_m8 65 rfl) rfl
theorem q1973 : (Jvm.Cond.classLink "SofaDig$Reader" (245 : Nat) "SofaDig$Order") ∈ lw_all := lw_g (lw_at lw_m8 178 rfl) rfl
theorem q1974 : (Jvm.Cond.instantiable "SofaDig$Order" (3 : Nat)) ∈ lw_all := lw_g (lw_at lw_m8 179 rfl) rfl
theorem q2061 : (Jvm.Cond.methodLink "SofaDig$Reader" (253 : Nat) ({ cls := "SofaDig$Test", name := "always", desc := "()LSofaDig$Test;" } : Jvm.MethodName)) ∈ lw_all := lw_g (lw_at lw_m9 26 rfl) rfl
theorem q2062 : (Jvm.Cond.static ({ cls := "SofaDig$Test", name := "always", desc := "()LSofaDig$Test;" } : Jvm.MethodName)) ∈ lw_all := lw_g (lw_at lw_m9 27 rfl) rfl
theorem q2071 : (Jvm.Cond.methodLink "SofaDig$Reader" (258 : Nat) ({ cls := "SofaDig$Order", name := "<init>", desc := "(LSofaDig$Craft;LSofaDig$Sum;LSofaDig$Test;)V" } : Jvm.MethodName)) ∈ lw_all := lw_g (lw_at lw_m9 36 rfl) rfl
theorem q2072 : (Jvm.Cond.instanceMethod ({ cls := "SofaDig$Order", name := "<init>", desc := "(LSofaDig$Craft;LSofaDig$Sum;LSofaDig$Test;)V" } : Jvm.MethodName)) ∈ lw_all := lw_g (lw_at lw_m9 37 rfl) rfl
/-! SofaDig$Reader.order()V -/
abbrev cX7_order : ByteArray := prog_18_method_21_code
def yX7_order : MethodName := ⟨RX7, "order", "()V"⟩
def dkwX7_order_3 : List UInt8 := [184, 0, 253, 183, 1, 2, 182, 0, 193, 87, 177]
abbrev dktX7_order_3 : List UInt8 := dkwX7_order_3 ++ []
def dkwX7_order_2 : List UInt8 := [187, 0, 245, 89, 44, 45, 42, 18, 247, 182, 0, 55, 153, 0, 10, 42, 182, 0, 249, 167, 0, 6]
abbrev dktX7_order_2 : List UInt8 := dkwX7_order_2 ++ dktX7_order_3
def dkwX7_order_1 : List UInt8 := [162, 0, 7, 4, 167, 0, 4, 3, 43, 182, 0, 95, 42, 182, 0, 241, 78, 42, 180, 0, 12, 180, 0, 238]
abbrev dktX7_order_1 : List UInt8 := dkwX7_order_1 ++ dktX7_order_2
def dkwX7_order_0 : List UInt8 := [42, 182, 0, 43, 76, 42, 182, 0, 234, 77, 42, 7, 42, 180, 0, 12, 180, 0, 238, 182, 0, 217, 16, 16]
abbrev dktX7_order_0 : List UInt8 := dkwX7_order_0 ++ dktX7_order_1
theorem dksX7_order_0 : cX7_order.data.toList.drop 0 = dktX7_order_0 := by decide +kernel
theorem dksX7_order_1 : cX7_order.data.toList.drop 24 = dktX7_order_1 := dk_seg dksX7_order_0 24 rfl rfl
theorem dksX7_order_2 : cX7_order.data.toList.drop 48 = dktX7_order_2 := dk_seg dksX7_order_1 24 rfl rfl
theorem dksX7_order_3 : cX7_order.data.toList.drop 70 = dktX7_order_3 := dk_seg dksX7_order_2 22 rfl rfl
theorem dX7_order_0 : decode cX7_order 0 = .ok (.aload_n 0, 1) := dk_42 (dk_at dksX7_order_0 0 rfl rfl)
theorem dX7_order_1 : decode cX7_order 1 = .ok (.invokevirtual 43, 3) := dk_182 0 43 (dk_at dksX7_order_0 1 rfl rfl)
theorem dX7_order_4 : decode cX7_order 4 = .ok (.astore_n 1, 1) := dk_76 (dk_at dksX7_order_0 4 rfl rfl)
theorem dX7_order_5 : decode cX7_order 5 = .ok (.aload_n 0, 1) := dk_42 (dk_at dksX7_order_0 5 rfl rfl)
theorem dX7_order_6 : decode cX7_order 6 = .ok (.invokevirtual 234, 3) := dk_182 0 234 (dk_at dksX7_order_0 6 rfl rfl)
theorem dX7_order_9 : decode cX7_order 9 = .ok (.astore_n 2, 1) := dk_77 (dk_at dksX7_order_0 9 rfl rfl)
theorem dX7_order_10 : decode cX7_order 10 = .ok (.aload_n 0, 1) := dk_42 (dk_at dksX7_order_0 10 rfl rfl)
theorem dX7_order_11 : decode cX7_order 11 = .ok (.iconst 4, 1) := dk_7 (dk_at dksX7_order_0 11 rfl rfl)
theorem dX7_order_12 : decode cX7_order 12 = .ok (.aload_n 0, 1) := dk_42 (dk_at dksX7_order_0 12 rfl rfl)
theorem dX7_order_13 : decode cX7_order 13 = .ok (.getfield 12, 3) := dk_180 0 12 (dk_at dksX7_order_0 13 rfl rfl)
theorem dX7_order_16 : decode cX7_order 16 = .ok (.getfield 238, 3) := dk_180 0 238 (dk_at dksX7_order_0 16 rfl rfl)
theorem dX7_order_19 : decode cX7_order 19 = .ok (.invokevirtual 217, 3) := dk_182 0 217 (dk_at dksX7_order_0 19 rfl rfl)
theorem dX7_order_22 : decode cX7_order 22 = .ok (.bipush 16, 2) := dk_16 16 (dk_at dksX7_order_0 22 rfl rfl)
theorem dX7_order_24 : decode cX7_order 24 = .ok (.if_icmp .ge 7, 3) := dk_162 0 7 (dk_at dksX7_order_1 0 rfl rfl)
theorem dX7_order_27 : decode cX7_order 27 = .ok (.iconst 1, 1) := dk_4 (dk_at dksX7_order_1 3 rfl rfl)
theorem dX7_order_28 : decode cX7_order 28 = .ok (.goto 4, 3) := dk_167 0 4 (dk_at dksX7_order_1 4 rfl rfl)
theorem dX7_order_31 : decode cX7_order 31 = .ok (.iconst 0, 1) := dk_3 (dk_at dksX7_order_1 7 rfl rfl)
theorem dX7_order_32 : decode cX7_order 32 = .ok (.aload_n 1, 1) := dk_43 (dk_at dksX7_order_1 8 rfl rfl)
theorem dX7_order_33 : decode cX7_order 33 = .ok (.invokevirtual 95, 3) := dk_182 0 95 (dk_at dksX7_order_1 9 rfl rfl)
theorem dX7_order_36 : decode cX7_order 36 = .ok (.aload_n 0, 1) := dk_42 (dk_at dksX7_order_1 12 rfl rfl)
theorem dX7_order_37 : decode cX7_order 37 = .ok (.invokevirtual 241, 3) := dk_182 0 241 (dk_at dksX7_order_1 13 rfl rfl)
theorem dX7_order_40 : decode cX7_order 40 = .ok (.astore_n 3, 1) := dk_78 (dk_at dksX7_order_1 16 rfl rfl)
theorem dX7_order_41 : decode cX7_order 41 = .ok (.aload_n 0, 1) := dk_42 (dk_at dksX7_order_1 17 rfl rfl)
theorem dX7_order_42 : decode cX7_order 42 = .ok (.getfield 12, 3) := dk_180 0 12 (dk_at dksX7_order_1 18 rfl rfl)
theorem dX7_order_45 : decode cX7_order 45 = .ok (.getfield 238, 3) := dk_180 0 238 (dk_at dksX7_order_1 21 rfl rfl)
theorem dX7_order_48 : decode cX7_order 48 = .ok (.new 245, 3) := dk_187 0 245 (dk_at dksX7_order_2 0 rfl rfl)
theorem dX7_order_51 : decode cX7_order 51 = .ok (.dup, 1) := dk_89 (dk_at dksX7_order_2 3 rfl rfl)
theorem dX7_order_52 : decode cX7_order 52 = .ok (.aload_n 2, 1) := dk_44 (dk_at dksX7_order_2 4 rfl rfl)
theorem dX7_order_53 : decode cX7_order 53 = .ok (.aload_n 3, 1) := dk_45 (dk_at dksX7_order_2 5 rfl rfl)
theorem dX7_order_54 : decode cX7_order 54 = .ok (.aload_n 0, 1) := dk_42 (dk_at dksX7_order_2 6 rfl rfl)
theorem dX7_order_55 : decode cX7_order 55 = .ok (.ldc 247, 2) := dk_18 247 (dk_at dksX7_order_2 7 rfl rfl)
theorem dX7_order_57 : decode cX7_order 57 = .ok (.invokevirtual 55, 3) := dk_182 0 55 (dk_at dksX7_order_2 9 rfl rfl)
theorem dX7_order_60 : decode cX7_order 60 = .ok (.ifCond .eq 10, 3) := dk_153 0 10 (dk_at dksX7_order_2 12 rfl rfl)
theorem dX7_order_63 : decode cX7_order 63 = .ok (.aload_n 0, 1) := dk_42 (dk_at dksX7_order_2 15 rfl rfl)
theorem dX7_order_64 : decode cX7_order 64 = .ok (.invokevirtual 249, 3) := dk_182 0 249 (dk_at dksX7_order_2 16 rfl rfl)
theorem dX7_order_67 : decode cX7_order 67 = .ok (.goto 6, 3) := dk_167 0 6 (dk_at dksX7_order_2 19 rfl rfl)
theorem dX7_order_70 : decode cX7_order 70 = .ok (.invokestatic 253, 3) := dk_184 0 253 (dk_at dksX7_order_3 0 rfl rfl)
theorem dX7_order_73 : decode cX7_order 73 = .ok (.invokespecial 258, 3) := dk_183 1 2 (dk_at dksX7_order_3 3 rfl rfl)
theorem dX7_order_76 : decode cX7_order 76 = .ok (.invokevirtual 193, 3) := dk_182 0 193 (dk_at dksX7_order_3 6 rfl rfl)
theorem dX7_order_79 : decode cX7_order 79 = .ok (.pop, 1) := dk_87 (dk_at dksX7_order_3 9 rfl rfl)
theorem dX7_order_80 : decode cX7_order 80 = .ok (.return_, 1) := dk_177 (dk_at dksX7_order_3 10 rfl rfl)
theorem fdX7_238_2 : sd_Fd "SofaDig$Reader" 238 2 5 := ⟨(RX3, TX3, 12), "SofaDig$Sofa", rfl, by decide, rfl, in_X3, Or.inl rfl, Or.inr ⟨_, q260⟩⟩
theorem fnX7_245 : sd_Fn "SofaDig$Reader" 245 17 3 [.null, .null, .null] := ⟨(RX19, TX19, 3), tyX19, rfl, rfl, in_X19, q1973, q1974, q171, tyX19_ok, fun j hj => by revert j; decide⟩
abbrev mX7_order : sd_Y := (yX7_order, cX7_order, 4, none, none)
def fX7_order_b73 (G : sd_G) (y0 : Nat) (y1 : Nat) (y2 : Nat) (y3 : Nat) (y4 : Nat) (y5 : Nat) : sd_M (Unit ⊕ Nat) :=
  sd_bnd (fX19_init G y3 y2 y1 y0) fun _ =>
  sd_bnd (sd_isC G 41 y5) fun _ =>
  sd_bnd (fJ2_add G y5 y4) fun r12 =>
  sd_ret (.inl ())
set_option maxHeartbeats 4000000 in
theorem sX7_order_b73 (l : Launch) (hl : l.stackTraces = false) (G : sd_G) (a0 : Nat) (ρ : Unit ⊕ Nat) (h2 : sd_H) (cT : Nat × Nat) (y0 : Nat) (y1 : Nat) (y2 : Nat) (y3 : Nat) (y4 : Nat) (y5 : Nat) (h : sd_H) (c : Nat × Nat) (hf : fX7_order_b73 G y0 y1 y2 y3 y4 y5 h = some (ρ, c, h2)) : sd_J mX7_order ((l, G), (111, 4804), [.ref a0], ((sd_ox sd_oV) ρ, h2), cT) 73 [] [.ref y0, .ref y1, .ref y2, .ref y3, .ref y4, .ref y5] h c := by
  unfold fX7_order_b73 at hf
  refine sj_cV (rest := [.ref y4, .ref y5]) (fun _ _ _ e => sj_runI (n := 3) (a := y3) (As := [.ref y2, .ref y1, .ref y0]) (rest := [.ref y4, .ref y5]) (sX19_init l G y3 y2 y1 y0 h _ _ _ e) rfl rfl q2071 q2072 q171 q2073 rfl (by decide +kernel) rfl rfl (fun _ z => by cases z) ⟨Nat.le_of_ble_eq_true rfl, Nat.le_of_ble_eq_true rfl⟩ rfl (Nat.le_of_ble_eq_true rfl) dX7_order_73) hf (fun h c hf => ?_)
  obtain ⟨fs76, he76, hf⟩ := sd_isC_some hf
  refine sj_cI (rest := []) (fun _ _ _ e => sj_runV (n := 1) (As := [.ref y4]) (rest := []) (sJ2_add l G y5 y4 h _ _ _ e) he76 rfl rfl rfl rfl q1638 q338 q339 q121 q340 (by decide +kernel) rfl rfl ⟨Nat.le_of_ble_eq_true rfl, Nat.le_of_ble_eq_true rfl⟩ rfl (Nat.le_of_ble_eq_true rfl) dX7_order_76) hf (fun r12 h c hf => ?_)
  refine sj_pop dX7_order_79 rfl ?_
  exact sj_vret (o := (sd_ox sd_oV)) hf rfl rfl rfl dX7_order_80
def fX7_order_b32 (G : sd_G) (w0 : Nat) (w1 : Nat) (w2 : Nat) (y0 : Int32) (y1 : Int32) (y2 : Nat) : sd_M (Unit ⊕ Nat) :=
  sd_bnd (sd_isC G 6 y2) fun _ =>
  sd_bx (fX7_check G y2 y1 y0 w1) (fun e33 =>
    sd_ret (.inr e33)) fun _ =>
  sd_bnd (sd_isC G 6 w0) fun _ =>
  sd_bx ((pRP G 100).2.2.2.1 w0) (fun e37 =>
    sd_ret (.inr e37)) fun r6 =>
  sd_bnd (sd_getR G 6 4 w0) fun v7 =>
  sd_bnd (sd_getR G 2 5 v7) fun v8 =>
  sd_bnd (sd_new 17 3 [.null, .null, .null]) fun o9 =>
  sd_bnd (sd_isC G 6 w0) fun _ =>
  sd_bnd (fX7_takeIf G w0 (sd_ad G 124)) fun r10 =>
  if r10 = 0 then (
    sd_bnd (fX25_always G) fun r11 =>
    fX7_order_b73 G r11 r6 w2 o9 o9 v8)
  else (
    sd_bnd (sd_isC G 6 w0) fun _ =>
    sd_bx ((pRP G 100).1 w0) (fun e64 =>
      sd_ret (.inr e64)) fun r13 =>
    fX7_order_b73 G r13 r6 w2 o9 o9 v8)
set_option maxHeartbeats 4000000 in
theorem sX7_order_b32 (l : Launch) (hl : l.stackTraces = false) (G : sd_G) (a0 : Nat) (ρ : Unit ⊕ Nat) (h2 : sd_H) (cT : Nat × Nat) (w0 : Nat) (w1 : Nat) (w2 : Nat) (y0 : Int32) (y1 : Int32) (y2 : Nat) (h : sd_H) (c : Nat × Nat) (hf : fX7_order_b32 G w0 w1 w2 y0 y1 y2 h = some (ρ, c, h2)) : sd_J mX7_order ((l, G), (111, 4804), [.ref a0], ((sd_ox sd_oV) ρ, h2), cT) 32 [(0, .ref w0), (1, .ref w1), (2, .ref w2)] [.int y0, .int y1, .ref y2] h c := by
  unfold fX7_order_b32 at hf
  refine sj_aload_n 1 dX7_order_32 rfl ?_
  obtain ⟨fs33, he33, hf⟩ := sd_isC_some hf
  refine sj_xV (rest := []) (fun _ _ _ e => sj_runV (n := 3) (As := [.int y1, .int y0, .ref w1]) (rest := []) (sX7_check l hl G y2 y1 y0 w1 h _ _ _ e) he33 rfl rfl rfl rfl q1076 q1078 qs11 q134 q1079 (by decide +kernel) rfl rfl ⟨Nat.le_of_ble_eq_true rfl, Nat.le_of_ble_eq_true rfl⟩ rfl (Nat.le_of_ble_eq_true rfl) dX7_order_33) hf (fun e33 h c hf => ?_) (fun h c hf => ?_)
  · exact sj_outX hf rfl (by intro x hx; cases hx)
  refine sj_aload_n 0 dX7_order_36 rfl ?_
  obtain ⟨fs37, he37, hf⟩ := sd_isC_some hf
  refine sj_xR (rest := []) (fun _ _ _ e => sj_runV (n := 0) (As := []) (rest := []) ((spRP l hl G 100).2.2.2.1 w0 h _ _ _ e) he37 rfl rfl rfl rfl q1864 q1866 qs23 q134 q1867 (by decide +kernel) rfl rfl ⟨Nat.le_of_ble_eq_true rfl, Nat.le_of_ble_eq_true rfl⟩ rfl (Nat.le_of_ble_eq_true rfl) dX7_order_37) hf (fun e37 h c hf => ?_) (fun r6 h c hf => ?_)
  · exact sj_outX hf rfl (by intro x hx; cases hx)
  refine sj_astore_n [(3, .ref r6), (0, .ref w0), (1, .ref w1), (2, .ref w2)] dX7_order_40 (by decide) rfl ?_
  refine sj_aload_n 1 dX7_order_41 rfl ?_
  refine sj_getR fdX7_12_6 hf dX7_order_42 (fun v7 hf => ?_)
  refine sj_getR fdX7_238_2 hf dX7_order_45 (fun v8 hf => ?_)
  refine sj_new fnX7_245 hf dX7_order_48 (fun o9 h c hf => ?_)
  refine sj_dup dX7_order_51 rfl ?_
  refine sj_aload_n 3 dX7_order_52 rfl ?_
  refine sj_aload_n 0 dX7_order_53 rfl ?_
  refine sj_aload_n 1 dX7_order_54 rfl ?_
  refine sj_ldcS 24 rfl dX7_order_55 ?_
  obtain ⟨fs57, he57, hf⟩ := sd_isC_some hf
  refine sj_cI (rest := [.ref r6, .ref w2, .ref o9, .ref o9, .ref v8]) (fun _ _ _ e => sj_runV (n := 1) (As := [.ref (sd_ad G 124)]) (rest := [.ref r6, .ref w2, .ref o9, .ref o9, .ref v8]) (sX7_takeIf l G w0 (sd_ad G 124) h _ _ _ e) he57 rfl rfl rfl rfl q987 q989 qs6 q134 q990 (by decide +kernel) rfl rfl ⟨Nat.le_of_ble_eq_true rfl, Nat.le_of_ble_eq_true rfl⟩ rfl (Nat.le_of_ble_eq_true rfl) dX7_order_57) hf (fun r10 h c hf => ?_)
  refine sj_ifeq 70 hf dX7_order_60 (by decide) (fun g60 hf => ?_) (fun g60 hf => ?_)
  · refine sj_cR (rest := [.ref r6, .ref w2, .ref o9, .ref o9, .ref v8]) (fun _ _ _ e => sj_runS (n := 0) (rest := [.ref r6, .ref w2, .ref o9, .ref o9, .ref v8]) (sX25_always l G h _ _ _ e) rfl rfl q2061 q2062 q177 q2063 (by decide +kernel) rfl ⟨Nat.le_of_ble_eq_true rfl, Nat.le_of_ble_eq_true rfl⟩ rfl (Nat.le_of_ble_eq_true rfl) dX7_order_70) hf (fun r11 h c hf => ?_)
    exact sj_loc [] rfl (sX7_order_b73 l hl G a0 ρ h2 cT r11 r6 w2 o9 o9 v8 _ _ hf)
  · refine sj_aload_n 1 dX7_order_63 rfl ?_
    obtain ⟨fs64, he64, hf⟩ := sd_isC_some hf
    refine sj_xR (rest := [.ref r6, .ref w2, .ref o9, .ref o9, .ref v8]) (fun _ _ _ e => sj_runV (n := 0) (As := []) (rest := [.ref r6, .ref w2, .ref o9, .ref o9, .ref v8]) ((spRP l hl G 100).1 w0 h _ _ _ e) he64 rfl rfl rfl rfl q1976 q1978 qs29 q134 q1979 (by decide +kernel) rfl rfl ⟨Nat.le_of_ble_eq_true rfl, Nat.le_of_ble_eq_true rfl⟩ rfl (Nat.le_of_ble_eq_true rfl) dX7_order_64) hf (fun e64 h c hf => ?_) (fun r13 h c hf => ?_)
    · exact sj_outX hf rfl (by intro x hx; cases hx)
    refine sj_goto 73 dX7_order_67 (by decide) ?_
    exact sj_loc [] rfl (sX7_order_b73 l hl G a0 ρ h2 cT r13 r6 w2 o9 o9 v8 _ _ hf)
def fX7_order (G : sd_G) (a0 : Nat) : sd_M (Unit ⊕ Nat) :=
  sd_bnd (sd_isC G 6 a0) fun _ =>
  sd_bnd (fX7_now G a0) fun r1 =>
  sd_bnd (sd_isC G 6 a0) fun _ =>
  sd_bx (fX7_craft G a0) (fun e6 =>
    sd_ret (.inr e6)) fun r2 =>
  sd_bnd (sd_getR G 6 4 a0) fun v3 =>
  sd_bnd (sd_getR G 2 5 v3) fun v4 =>
  sd_bnd (sd_isC G 41 v4) fun _ =>
  sd_bnd (fJ2_size G v4) fun r5 =>
  if 16 ≤ r5 then (
    fX7_order_b32 G a0 r1 r2 0 4 a0)
  else (
    fX7_order_b32 G a0 r1 r2 1 4 a0)
set_option maxHeartbeats 4000000 in
theorem sX7_order (l : Launch) (hl : l.stackTraces = false) (G : sd_G) (a0 : Nat) (h : sd_H) (ρ : Unit ⊕ Nat) (cT : Nat × Nat) (h2 : sd_H) (hf : fX7_order G a0 h = some (ρ, cT, h2)) : sd_Met mX7_order ((l, G), (111, 4804), [.ref a0], ((sd_ox sd_oV) ρ, h2), cT) h := by
  refine sd_entry (plainFor_of_name rfl) rfl (Nat.le_of_ble_eq_true rfl) ?_
  show sd_J mX7_order ((l, G), (111, 4804), [.ref a0], ((sd_ox sd_oV) ρ, h2), cT) 0 [(0, .ref a0)] [] h cT
  unfold fX7_order at hf
  refine sj_aload_n 0 dX7_order_0 rfl ?_
  obtain ⟨fs1, he1, hf⟩ := sd_isC_some hf
  refine sj_cR (rest := []) (fun _ _ _ e => sj_runV (n := 0) (As := []) (rest := []) (sX7_now l G a0 h _ _ _ e) he1 rfl rfl rfl rfl q991 q993 qs7 q134 q994 (by decide +kernel) rfl rfl ⟨Nat.le_of_ble_eq_true rfl, Nat.le_of_ble_eq_true rfl⟩ rfl (Nat.le_of_ble_eq_true rfl) dX7_order_1) hf (fun r1 h c hf => ?_)
  refine sj_astore_n [(1, .ref r1), (0, .ref a0)] dX7_order_4 (by decide) rfl ?_
  refine sj_aload_n 1 dX7_order_5 rfl ?_
  obtain ⟨fs6, he6, hf⟩ := sd_isC_some hf
  refine sj_xR (rest := []) (fun _ _ _ e => sj_runV (n := 0) (As := []) (rest := []) (sX7_craft l hl G a0 h _ _ _ e) he6 rfl rfl rfl rfl q1858 q1860 qs22 q134 q1861 (by decide +kernel) rfl rfl ⟨Nat.le_of_ble_eq_true rfl, Nat.le_of_ble_eq_true rfl⟩ rfl (Nat.le_of_ble_eq_true rfl) dX7_order_6) hf (fun e6 h c hf => ?_) (fun r2 h c hf => ?_)
  · exact sj_outX hf rfl (by intro x hx; cases hx)
  refine sj_astore_n [(2, .ref r2), (1, .ref r1), (0, .ref a0)] dX7_order_9 (by decide) rfl ?_
  refine sj_aload_n 2 dX7_order_10 rfl ?_
  refine sj_iconst (v := 4) dX7_order_11 (by decide) ?_
  refine sj_aload_n 2 dX7_order_12 rfl ?_
  refine sj_getR fdX7_12_6 hf dX7_order_13 (fun v3 hf => ?_)
  refine sj_getR fdX7_238_2 hf dX7_order_16 (fun v4 hf => ?_)
  obtain ⟨fs19, he19, hf⟩ := sd_isC_some hf
  refine sj_cI (rest := [.int 4, .ref a0]) (fun _ _ _ e => sj_runV (n := 0) (As := []) (rest := [.int 4, .ref a0]) (sJ2_size l G v4 h _ _ _ e) he19 rfl rfl rfl rfl q1807 q490 q491 q121 q492 (by decide +kernel) rfl rfl ⟨Nat.le_of_ble_eq_true rfl, Nat.le_of_ble_eq_true rfl⟩ rfl (Nat.le_of_ble_eq_true rfl) dX7_order_19) hf (fun r5 h c hf => ?_)
  refine sj_bipush (v := 16) dX7_order_22 (by decide) ?_
  refine sj_icge 31 hf dX7_order_24 (by decide) (fun g24 hf => ?_) (fun g24 hf => ?_)
  · refine sj_iconst (v := 0) dX7_order_31 (by decide) ?_
    exact sj_loc [2, 1, 0] rfl (sX7_order_b32 l hl G a0 ρ h2 cT a0 r1 r2 0 4 a0 _ _ hf)
  · refine sj_iconst (v := 1) dX7_order_27 (by decide) ?_
    refine sj_goto 32 dX7_order_28 (by decide) ?_
    exact sj_loc [2, 1, 0] rfl (sX7_order_b32 l hl G a0 ρ h2 cT a0 r1 r2 1 4 a0 _ _ hf)
/-! SofaDig$Reader.line()V -/
abbrev cX7_line : ByteArray := prog_18_method_17_code
def yX7_line : MethodName := ⟨RX7, "line", "()V"⟩
def dkwX7_line_3 : List UInt8 := [181, 0, 171, 167, 0, 7, 42, 182, 0, 176, 177]
abbrev dktX7_line_3 : List UInt8 := dkwX7_line_3 ++ []
def dkwX7_line_2 : List UInt8 := [42, 43, 3, 182, 0, 159, 167, 0, 28, 42, 18, 165, 182, 0, 55, 153, 0, 15, 42, 3, 182, 0, 167, 4]
abbrev dktX7_line_2 : List UInt8 := dkwX7_line_2 ++ dktX7_line_3
def dkwX7_line_1 : List UInt8 := [182, 0, 55, 153, 0, 12, 42, 43, 4, 182, 0, 159, 167, 0, 46, 42, 18, 163, 182, 0, 55, 153, 0, 12]
abbrev dktX7_line_1 : List UInt8 := dkwX7_line_1 ++ dktX7_line_2
def dkwX7_line_0 : List UInt8 := [42, 182, 0, 43, 76, 42, 18, 153, 182, 0, 55, 153, 0, 10, 42, 182, 0, 155, 167, 0, 64, 42, 18, 157]
abbrev dktX7_line_0 : List UInt8 := dkwX7_line_0 ++ dktX7_line_1
theorem dksX7_line_0 : cX7_line.data.toList.drop 0 = dktX7_line_0 := by decide +kernel
theorem dksX7_line_1 : cX7_line.data.toList.drop 24 = dktX7_line_1 := dk_seg dksX7_line_0 24 rfl rfl
theorem dksX7_line_2 : cX7_line.data.toList.drop 48 = dktX7_line_2 := dk_seg dksX7_line_1 24 rfl rfl
theorem dksX7_line_3 : cX7_line.data.toList.drop 72 = dktX7_line_3 := dk_seg dksX7_line_2 24 rfl rfl
theorem dX7_line_0 : decode cX7_line 0 = .ok (.aload_n 0, 1) := dk_42 (dk_at dksX7_line_0 0 rfl rfl)
theorem dX7_line_1 : decode cX7_line 1 = .ok (.invokevirtual 43, 3) := dk_182 0 43 (dk_at dksX7_line_0 1 rfl rfl)
theorem dX7_line_4 : decode cX7_line 4 = .ok (.astore_n 1, 1) := dk_76 (dk_at dksX7_line_0 4 rfl rfl)
theorem dX7_line_5 : decode cX7_line 5 = .ok (.aload_n 0, 1) := dk_42 (dk_at dksX7_line_0 5 rfl rfl)
theorem dX7_line_6 : decode cX7_line 6 = .ok (.ldc 153, 2) := dk_18 153 (dk_at dksX7_line_0 6 rfl rfl)
theorem dX7_line_8 : decode cX7_line 8 = .ok (.invokevirtual 55, 3) := dk_182 0 55 (dk_at dksX7_line_0 8 rfl rfl)
theorem dX7_line_11 : decode cX7_line 11 = .ok (.ifCond .eq 10, 3) := dk_153 0 10 (dk_at dksX7_line_0 11 rfl rfl)
theorem dX7_line_14 : decode cX7_line 14 = .ok (.aload_n 0, 1) := dk_42 (dk_at dksX7_line_0 14 rfl rfl)
theorem dX7_line_15 : decode cX7_line 15 = .ok (.invokevirtual 155, 3) := dk_182 0 155 (dk_at dksX7_line_0 15 rfl rfl)
theorem dX7_line_18 : decode cX7_line 18 = .ok (.goto 64, 3) := dk_167 0 64 (dk_at dksX7_line_0 18 rfl rfl)
theorem dX7_line_21 : decode cX7_line 21 = .ok (.aload_n 0, 1) := dk_42 (dk_at dksX7_line_0 21 rfl rfl)
theorem dX7_line_22 : decode cX7_line 22 = .ok (.ldc 157, 2) := dk_18 157 (dk_at dksX7_line_0 22 rfl rfl)
theorem dX7_line_24 : decode cX7_line 24 = .ok (.invokevirtual 55, 3) := dk_182 0 55 (dk_at dksX7_line_1 0 rfl rfl)
theorem dX7_line_27 : decode cX7_line 27 = .ok (.ifCond .eq 12, 3) := dk_153 0 12 (dk_at dksX7_line_1 3 rfl rfl)
theorem dX7_line_30 : decode cX7_line 30 = .ok (.aload_n 0, 1) := dk_42 (dk_at dksX7_line_1 6 rfl rfl)
theorem dX7_line_31 : decode cX7_line 31 = .ok (.aload_n 1, 1) := dk_43 (dk_at dksX7_line_1 7 rfl rfl)
theorem dX7_line_32 : decode cX7_line 32 = .ok (.iconst 1, 1) := dk_4 (dk_at dksX7_line_1 8 rfl rfl)
theorem dX7_line_33 : decode cX7_line 33 = .ok (.invokevirtual 159, 3) := dk_182 0 159 (dk_at dksX7_line_1 9 rfl rfl)
theorem dX7_line_36 : decode cX7_line 36 = .ok (.goto 46, 3) := dk_167 0 46 (dk_at dksX7_line_1 12 rfl rfl)
theorem dX7_line_39 : decode cX7_line 39 = .ok (.aload_n 0, 1) := dk_42 (dk_at dksX7_line_1 15 rfl rfl)
theorem dX7_line_40 : decode cX7_line 40 = .ok (.ldc 163, 2) := dk_18 163 (dk_at dksX7_line_1 16 rfl rfl)
theorem dX7_line_42 : decode cX7_line 42 = .ok (.invokevirtual 55, 3) := dk_182 0 55 (dk_at dksX7_line_1 18 rfl rfl)
theorem dX7_line_45 : decode cX7_line 45 = .ok (.ifCond .eq 12, 3) := dk_153 0 12 (dk_at dksX7_line_1 21 rfl rfl)
theorem dX7_line_48 : decode cX7_line 48 = .ok (.aload_n 0, 1) := dk_42 (dk_at dksX7_line_2 0 rfl rfl)
theorem dX7_line_49 : decode cX7_line 49 = .ok (.aload_n 1, 1) := dk_43 (dk_at dksX7_line_2 1 rfl rfl)
theorem dX7_line_50 : decode cX7_line 50 = .ok (.iconst 0, 1) := dk_3 (dk_at dksX7_line_2 2 rfl rfl)
theorem dX7_line_51 : decode cX7_line 51 = .ok (.invokevirtual 159, 3) := dk_182 0 159 (dk_at dksX7_line_2 3 rfl rfl)
theorem dX7_line_54 : decode cX7_line 54 = .ok (.goto 28, 3) := dk_167 0 28 (dk_at dksX7_line_2 6 rfl rfl)
theorem dX7_line_57 : decode cX7_line 57 = .ok (.aload_n 0, 1) := dk_42 (dk_at dksX7_line_2 9 rfl rfl)
theorem dX7_line_58 : decode cX7_line 58 = .ok (.ldc 165, 2) := dk_18 165 (dk_at dksX7_line_2 10 rfl rfl)
theorem dX7_line_60 : decode cX7_line 60 = .ok (.invokevirtual 55, 3) := dk_182 0 55 (dk_at dksX7_line_2 12 rfl rfl)
theorem dX7_line_63 : decode cX7_line 63 = .ok (.ifCond .eq 15, 3) := dk_153 0 15 (dk_at dksX7_line_2 15 rfl rfl)
theorem dX7_line_66 : decode cX7_line 66 = .ok (.aload_n 0, 1) := dk_42 (dk_at dksX7_line_2 18 rfl rfl)
theorem dX7_line_67 : decode cX7_line 67 = .ok (.iconst 0, 1) := dk_3 (dk_at dksX7_line_2 19 rfl rfl)
theorem dX7_line_68 : decode cX7_line 68 = .ok (.invokevirtual 167, 3) := dk_182 0 167 (dk_at dksX7_line_2 20 rfl rfl)
theorem dX7_line_71 : decode cX7_line 71 = .ok (.iconst 1, 1) := dk_4 (dk_at dksX7_line_2 23 rfl rfl)
theorem dX7_line_72 : decode cX7_line 72 = .ok (.putfield 171, 3) := dk_181 0 171 (dk_at dksX7_line_3 0 rfl rfl)
theorem dX7_line_75 : decode cX7_line 75 = .ok (.goto 7, 3) := dk_167 0 7 (dk_at dksX7_line_3 3 rfl rfl)
theorem dX7_line_78 : decode cX7_line 78 = .ok (.aload_n 0, 1) := dk_42 (dk_at dksX7_line_3 6 rfl rfl)
theorem dX7_line_79 : decode cX7_line 79 = .ok (.invokevirtual 176, 3) := dk_182 0 176 (dk_at dksX7_line_3 7 rfl rfl)
theorem dX7_line_82 : decode cX7_line 82 = .ok (.return_, 1) := dk_177 (dk_at dksX7_line_3 10 rfl rfl)
theorem fpX7_171_3 (n d : String) : sd_Fp ⟨"SofaDig$Reader", n, d⟩ 171 3 2 .boolean := ⟨(RX4, TX4, 4), "SofaDig$Cushion", tyX4, rfl, by decide, rfl, in_X4, Or.inl rfl, tyX4_ok, nmX4, rfl, Or.inl ⟨rfl, Or.inr ⟨_, q323⟩⟩⟩
abbrev mX7_line : sd_Y := (yX7_line, cX7_line, 2, none, none)
def fX7_line (G : sd_G) (a0 : Nat) : sd_M (Unit ⊕ Nat) :=
  sd_bnd (sd_isC G 6 a0) fun _ =>
  sd_bnd (fX7_now G a0) fun r1 =>
  sd_bnd (sd_isC G 6 a0) fun _ =>
  sd_bnd (fX7_takeIf G a0 (sd_ad G 106)) fun r2 =>
  if r2 = 0 then (
    sd_bnd (sd_isC G 6 a0) fun _ =>
    sd_bnd (fX7_takeIf G a0 (sd_ad G 110)) fun r3 =>
    if r3 = 0 then (
      sd_bnd (sd_isC G 6 a0) fun _ =>
      sd_bnd (fX7_takeIf G a0 (sd_ad G 115)) fun r4 =>
      if r4 = 0 then (
        sd_bnd (sd_isC G 6 a0) fun _ =>
        sd_bnd (fX7_takeIf G a0 (sd_ad G 116)) fun r5 =>
        if r5 = 0 then (
          sd_bnd (sd_isC G 6 a0) fun _ =>
          sd_bx (fX7_order G a0) (fun e79 =>
            sd_ret (.inr e79)) fun _ =>
          sd_ret (.inl ()))
        else (
          sd_bnd (sd_isC G 6 a0) fun _ =>
          sd_bx (fX7_place G a0 0) (fun e68 =>
            sd_ret (.inr e68)) fun r6 =>
          sd_bnd (sd_put 3 2 .boolean r6 (.int 1)) fun _ =>
          sd_ret (.inl ())))
      else (
        sd_bnd (sd_isC G 6 a0) fun _ =>
        sd_bx (fX7_find G a0 r1 0) (fun e51 =>
          sd_ret (.inr e51)) fun _ =>
        sd_ret (.inl ())))
    else (
      sd_bnd (sd_isC G 6 a0) fun _ =>
      sd_bx (fX7_find G a0 r1 1) (fun e33 =>
        sd_ret (.inr e33)) fun _ =>
      sd_ret (.inl ())))
  else (
    sd_bnd (sd_isC G 6 a0) fun _ =>
    sd_bx (fX7_empire G a0) (fun e15 =>
      sd_ret (.inr e15)) fun _ =>
    sd_ret (.inl ()))
set_option maxHeartbeats 4000000 in
theorem sX7_line (l : Launch) (hl : l.stackTraces = false) (G : sd_G) (a0 : Nat) (h : sd_H) (ρ : Unit ⊕ Nat) (cT : Nat × Nat) (h2 : sd_H) (hf : fX7_line G a0 h = some (ρ, cT, h2)) : sd_Met mX7_line ((l, G), (112, 4827), [.ref a0], ((sd_ox sd_oV) ρ, h2), cT) h := by
  refine sd_entry (plainFor_of_name rfl) rfl (Nat.le_of_ble_eq_true rfl) ?_
  show sd_J mX7_line ((l, G), (112, 4827), [.ref a0], ((sd_ox sd_oV) ρ, h2), cT) 0 [(0, .ref a0)] [] h cT
  unfold fX7_line at hf
  refine sj_aload_n 0 dX7_line_0 rfl ?_
  obtain ⟨fs1, he1, hf⟩ := sd_isC_some hf
  refine sj_cR (rest := []) (fun _ _ _ e => sj_runV (n := 0) (As := []) (rest := []) (sX7_now l G a0 h _ _ _ e) he1 rfl rfl rfl rfl q991 q993 qs7 q134 q994 (by decide +kernel) rfl rfl ⟨Nat.le_of_ble_eq_true rfl, Nat.le_of_ble_eq_true rfl⟩ rfl (Nat.le_of_ble_eq_true rfl) dX7_line_1) hf (fun r1 h c hf => ?_)
  refine sj_astore_n [(1, .ref r1), (0, .ref a0)] dX7_line_4 (by decide) rfl ?_
  refine sj_aload_n 1 dX7_line_5 rfl ?_
  refine sj_ldcS 6 rfl dX7_line_6 ?_
  obtain ⟨fs8, he8, hf⟩ := sd_isC_some hf
  refine sj_cI (rest := []) (fun _ _ _ e => sj_runV (n := 1) (As := [.ref (sd_ad G 106)]) (rest := []) (sX7_takeIf l G a0 (sd_ad G 106) h _ _ _ e) he8 rfl rfl rfl rfl q987 q989 qs6 q134 q990 (by decide +kernel) rfl rfl ⟨Nat.le_of_ble_eq_true rfl, Nat.le_of_ble_eq_true rfl⟩ rfl (Nat.le_of_ble_eq_true rfl) dX7_line_8) hf (fun r2 h c hf => ?_)
  refine sj_ifeq 21 hf dX7_line_11 (by decide) (fun g11 hf => ?_) (fun g11 hf => ?_)
  · refine sj_aload_n 1 dX7_line_21 rfl ?_
    refine sj_ldcS 10 rfl dX7_line_22 ?_
    obtain ⟨fs24, he24, hf⟩ := sd_isC_some hf
    refine sj_cI (rest := []) (fun _ _ _ e => sj_runV (n := 1) (As := [.ref (sd_ad G 110)]) (rest := []) (sX7_takeIf l G a0 (sd_ad G 110) h _ _ _ e) he24 rfl rfl rfl rfl q987 q989 qs6 q134 q990 (by decide +kernel) rfl rfl ⟨Nat.le_of_ble_eq_true rfl, Nat.le_of_ble_eq_true rfl⟩ rfl (Nat.le_of_ble_eq_true rfl) dX7_line_24) hf (fun r3 h c hf => ?_)
    refine sj_ifeq 39 hf dX7_line_27 (by decide) (fun g27 hf => ?_) (fun g27 hf => ?_)
    · refine sj_aload_n 1 dX7_line_39 rfl ?_
      refine sj_ldcS 15 rfl dX7_line_40 ?_
      obtain ⟨fs42, he42, hf⟩ := sd_isC_some hf
      refine sj_cI (rest := []) (fun _ _ _ e => sj_runV (n := 1) (As := [.ref (sd_ad G 115)]) (rest := []) (sX7_takeIf l G a0 (sd_ad G 115) h _ _ _ e) he42 rfl rfl rfl rfl q987 q989 qs6 q134 q990 (by decide +kernel) rfl rfl ⟨Nat.le_of_ble_eq_true rfl, Nat.le_of_ble_eq_true rfl⟩ rfl (Nat.le_of_ble_eq_true rfl) dX7_line_42) hf (fun r4 h c hf => ?_)
      refine sj_ifeq 57 hf dX7_line_45 (by decide) (fun g45 hf => ?_) (fun g45 hf => ?_)
      · refine sj_aload_n 1 dX7_line_57 rfl ?_
        refine sj_ldcS 16 rfl dX7_line_58 ?_
        obtain ⟨fs60, he60, hf⟩ := sd_isC_some hf
        refine sj_cI (rest := []) (fun _ _ _ e => sj_runV (n := 1) (As := [.ref (sd_ad G 116)]) (rest := []) (sX7_takeIf l G a0 (sd_ad G 116) h _ _ _ e) he60 rfl rfl rfl rfl q987 q989 qs6 q134 q990 (by decide +kernel) rfl rfl ⟨Nat.le_of_ble_eq_true rfl, Nat.le_of_ble_eq_true rfl⟩ rfl (Nat.le_of_ble_eq_true rfl) dX7_line_60) hf (fun r5 h c hf => ?_)
        refine sj_ifeq 78 hf dX7_line_63 (by decide) (fun g63 hf => ?_) (fun g63 hf => ?_)
        · refine sj_aload_n 1 dX7_line_78 rfl ?_
          obtain ⟨fs79, he79, hf⟩ := sd_isC_some hf
          refine sj_xV (rest := []) (fun _ _ _ e => sj_runV (n := 0) (As := []) (rest := []) (sX7_order l hl G a0 h _ _ _ e) he79 rfl rfl rfl rfl q1854 q1856 qs21 q134 q1857 (by decide +kernel) rfl rfl ⟨Nat.le_of_ble_eq_true rfl, Nat.le_of_ble_eq_true rfl⟩ rfl (Nat.le_of_ble_eq_true rfl) dX7_line_79) hf (fun e79 h c hf => ?_) (fun h c hf => ?_)
          · exact sj_outX hf rfl (by intro x hx; cases hx)
          exact sj_vret (o := (sd_ox sd_oV)) hf rfl rfl rfl dX7_line_82
        · refine sj_aload_n 1 dX7_line_66 rfl ?_
          refine sj_iconst (v := 0) dX7_line_67 (by decide) ?_
          obtain ⟨fs68, he68, hf⟩ := sd_isC_some hf
          refine sj_xR (rest := []) (fun _ _ _ e => sj_runV (n := 1) (As := [.int 0]) (rest := []) (sX7_place l hl G a0 0 h _ _ _ e) he68 rfl rfl rfl rfl q1808 q1810 qs19 q134 q1811 (by decide +kernel) rfl rfl ⟨Nat.le_of_ble_eq_true rfl, Nat.le_of_ble_eq_true rfl⟩ rfl (Nat.le_of_ble_eq_true rfl) dX7_line_68) hf (fun e68 h c hf => ?_) (fun r6 h c hf => ?_)
          · exact sj_outX hf rfl (by intro x hx; cases hx)
          refine sj_iconst (v := 1) dX7_line_71 (by decide) ?_
          refine sj_put (fpX7_171_3 _ _) hf dX7_line_72 (fun h hf => ?_)
          refine sj_goto 82 dX7_line_75 (by decide) ?_
          exact sj_vret (o := (sd_ox sd_oV)) hf rfl rfl rfl dX7_line_82
      · refine sj_aload_n 1 dX7_line_48 rfl ?_
        refine sj_aload_n 0 dX7_line_49 rfl ?_
        refine sj_iconst (v := 0) dX7_line_50 (by decide) ?_
        obtain ⟨fs51, he51, hf⟩ := sd_isC_some hf
        refine sj_xV (rest := []) (fun _ _ _ e => sj_runV (n := 2) (As := [.ref r1, .int 0]) (rest := []) (sX7_find l hl G a0 r1 0 h _ _ _ e) he51 rfl rfl rfl rfl q1803 q1805 qs18 q134 q1806 (by decide +kernel) rfl rfl ⟨Nat.le_of_ble_eq_true rfl, Nat.le_of_ble_eq_true rfl⟩ rfl (Nat.le_of_ble_eq_true rfl) dX7_line_51) hf (fun e51 h c hf => ?_) (fun h c hf => ?_)
        · exact sj_outX hf rfl (by intro x hx; cases hx)
        refine sj_goto 82 dX7_line_54 (by decide) ?_
        exact sj_vret (o := (sd_ox sd_oV)) hf rfl rfl rfl dX7_line_82
    · refine sj_aload_n 1 dX7_line_30 rfl ?_
      refine sj_aload_n 0 dX7_line_31 rfl ?_
      refine sj_iconst (v := 1) dX7_line_32 (by decide) ?_
      obtain ⟨fs33, he33, hf⟩ := sd_isC_some hf
      refine sj_xV (rest := []) (fun _ _ _ e => sj_runV (n := 2) (As := [.ref r1, .int 1]) (rest := []) (sX7_find l hl G a0 r1 1 h _ _ _ e) he33 rfl rfl rfl rfl q1803 q1805 qs18 q134 q1806 (by decide +kernel) rfl rfl ⟨Nat.le_of_ble_eq_true rfl, Nat.le_of_ble_eq_true rfl⟩ rfl (Nat.le_of_ble_eq_true rfl) dX7_line_33) hf (fun e33 h c hf => ?_) (fun h c hf => ?_)
      · exact sj_outX hf rfl (by intro x hx; cases hx)
      refine sj_goto 82 dX7_line_36 (by decide) ?_
      exact sj_vret (o := (sd_ox sd_oV)) hf rfl rfl rfl dX7_line_82
  · refine sj_aload_n 1 dX7_line_14 rfl ?_
    obtain ⟨fs15, he15, hf⟩ := sd_isC_some hf
    refine sj_xV (rest := []) (fun _ _ _ e => sj_runV (n := 0) (As := []) (rest := []) (sX7_empire l hl G a0 h _ _ _ e) he15 rfl rfl rfl rfl q1097 q1099 qs15 q134 q1100 (by decide +kernel) rfl rfl ⟨Nat.le_of_ble_eq_true rfl, Nat.le_of_ble_eq_true rfl⟩ rfl (Nat.le_of_ble_eq_true rfl) dX7_line_15) hf (fun e15 h c hf => ?_) (fun h c hf => ?_)
    · exact sj_outX hf rfl (by intro x hx; cases hx)
    refine sj_goto 82 dX7_line_18 (by decide) ?_
    exact sj_vret (o := (sd_ox sd_oV)) hf rfl rfl rfl dX7_line_82
/-! SofaDig$Reader.sofa()V -/
abbrev cX7_sofa : ByteArray := prog_18_method_15_code
def yX7_sofa : MethodName := ⟨RX7, "sofa", "()V"⟩
def dkwX7_sofa_3 : List UInt8 := [165, 0, 16, 42, 182, 0, 150, 42, 18, 141, 182, 0, 69, 167, 255, 233, 177]
abbrev dktX7_sofa_3 : List UInt8 := dkwX7_sofa_3 ++ []
def dkwX7_sofa_2 : List UInt8 := [180, 0, 75, 153, 0, 11, 42, 180, 0, 12, 182, 0, 143, 87, 42, 182, 0, 43, 180, 0, 62, 178, 0, 147]
abbrev dktX7_sofa_2 : List UInt8 := dkwX7_sofa_2 ++ dktX7_sofa_3
def dkwX7_sofa_1 : List UInt8 := [180, 0, 12, 42, 18, 132, 5, 16, 10, 182, 0, 134, 181, 0, 138, 42, 18, 141, 182, 0, 69, 42]
abbrev dktX7_sofa_1 : List UInt8 := dkwX7_sofa_1 ++ dktX7_sofa_2
def dkwX7_sofa_0 : List UInt8 := [42, 18, 125, 182, 0, 55, 153, 0, 39, 42, 180, 0, 12, 42, 5, 16, 8, 182, 0, 127, 181, 0, 130, 42]
abbrev dktX7_sofa_0 : List UInt8 := dkwX7_sofa_0 ++ dktX7_sofa_1
theorem dksX7_sofa_0 : cX7_sofa.data.toList.drop 0 = dktX7_sofa_0 := by decide +kernel
theorem dksX7_sofa_1 : cX7_sofa.data.toList.drop 24 = dktX7_sofa_1 := dk_seg dksX7_sofa_0 24 rfl rfl
theorem dksX7_sofa_2 : cX7_sofa.data.toList.drop 46 = dktX7_sofa_2 := dk_seg dksX7_sofa_1 22 rfl rfl
theorem dksX7_sofa_3 : cX7_sofa.data.toList.drop 70 = dktX7_sofa_3 := dk_seg dksX7_sofa_2 24 rfl rfl
theorem dX7_sofa_0 : decode cX7_sofa 0 = .ok (.aload_n 0, 1) := dk_42 (dk_at dksX7_sofa_0 0 rfl rfl)
theorem dX7_sofa_1 : decode cX7_sofa 1 = .ok (.ldc 125, 2) := dk_18 125 (dk_at dksX7_sofa_0 1 rfl rfl)
theorem dX7_sofa_3 : decode cX7_sofa 3 = .ok (.invokevirtual 55, 3) := dk_182 0 55 (dk_at dksX7_sofa_0 3 rfl rfl)
theorem dX7_sofa_6 : decode cX7_sofa 6 = .ok (.ifCond .eq 39, 3) := dk_153 0 39 (dk_at dksX7_sofa_0 6 rfl rfl)
theorem dX7_sofa_9 : decode cX7_sofa 9 = .ok (.aload_n 0, 1) := dk_42 (dk_at dksX7_sofa_0 9 rfl rfl)
theorem dX7_sofa_10 : decode cX7_sofa 10 = .ok (.getfield 12, 3) := dk_180 0 12 (dk_at dksX7_sofa_0 10 rfl rfl)
theorem dX7_sofa_13 : decode cX7_sofa 13 = .ok (.aload_n 0, 1) := dk_42 (dk_at dksX7_sofa_0 13 rfl rfl)
theorem dX7_sofa_14 : decode cX7_sofa 14 = .ok (.iconst 2, 1) := dk_5 (dk_at dksX7_sofa_0 14 rfl rfl)
theorem dX7_sofa_15 : decode cX7_sofa 15 = .ok (.bipush 8, 2) := dk_16 8 (dk_at dksX7_sofa_0 15 rfl rfl)
theorem dX7_sofa_17 : decode cX7_sofa 17 = .ok (.invokevirtual 127, 3) := dk_182 0 127 (dk_at dksX7_sofa_0 17 rfl rfl)
theorem dX7_sofa_20 : decode cX7_sofa 20 = .ok (.putfield 130, 3) := dk_181 0 130 (dk_at dksX7_sofa_0 20 rfl rfl)
theorem dX7_sofa_23 : decode cX7_sofa 23 = .ok (.aload_n 0, 1) := dk_42 (dk_at dksX7_sofa_0 23 rfl rfl)
theorem dX7_sofa_24 : decode cX7_sofa 24 = .ok (.getfield 12, 3) := dk_180 0 12 (dk_at dksX7_sofa_1 0 rfl rfl)
theorem dX7_sofa_27 : decode cX7_sofa 27 = .ok (.aload_n 0, 1) := dk_42 (dk_at dksX7_sofa_1 3 rfl rfl)
theorem dX7_sofa_28 : decode cX7_sofa 28 = .ok (.ldc 132, 2) := dk_18 132 (dk_at dksX7_sofa_1 4 rfl rfl)
theorem dX7_sofa_30 : decode cX7_sofa 30 = .ok (.iconst 2, 1) := dk_5 (dk_at dksX7_sofa_1 6 rfl rfl)
theorem dX7_sofa_31 : decode cX7_sofa 31 = .ok (.bipush 10, 2) := dk_16 10 (dk_at dksX7_sofa_1 7 rfl rfl)
theorem dX7_sofa_33 : decode cX7_sofa 33 = .ok (.invokevirtual 134, 3) := dk_182 0 134 (dk_at dksX7_sofa_1 9 rfl rfl)
theorem dX7_sofa_36 : decode cX7_sofa 36 = .ok (.putfield 138, 3) := dk_181 0 138 (dk_at dksX7_sofa_1 12 rfl rfl)
theorem dX7_sofa_39 : decode cX7_sofa 39 = .ok (.aload_n 0, 1) := dk_42 (dk_at dksX7_sofa_1 15 rfl rfl)
theorem dX7_sofa_40 : decode cX7_sofa 40 = .ok (.ldc 141, 2) := dk_18 141 (dk_at dksX7_sofa_1 16 rfl rfl)
theorem dX7_sofa_42 : decode cX7_sofa 42 = .ok (.invokevirtual 69, 3) := dk_182 0 69 (dk_at dksX7_sofa_1 18 rfl rfl)
theorem dX7_sofa_45 : decode cX7_sofa 45 = .ok (.aload_n 0, 1) := dk_42 (dk_at dksX7_sofa_1 21 rfl rfl)
theorem dX7_sofa_46 : decode cX7_sofa 46 = .ok (.getfield 75, 3) := dk_180 0 75 (dk_at dksX7_sofa_2 0 rfl rfl)
theorem dX7_sofa_49 : decode cX7_sofa 49 = .ok (.ifCond .eq 11, 3) := dk_153 0 11 (dk_at dksX7_sofa_2 3 rfl rfl)
theorem dX7_sofa_52 : decode cX7_sofa 52 = .ok (.aload_n 0, 1) := dk_42 (dk_at dksX7_sofa_2 6 rfl rfl)
theorem dX7_sofa_53 : decode cX7_sofa 53 = .ok (.getfield 12, 3) := dk_180 0 12 (dk_at dksX7_sofa_2 7 rfl rfl)
theorem dX7_sofa_56 : decode cX7_sofa 56 = .ok (.invokevirtual 143, 3) := dk_182 0 143 (dk_at dksX7_sofa_2 10 rfl rfl)
theorem dX7_sofa_59 : decode cX7_sofa 59 = .ok (.pop, 1) := dk_87 (dk_at dksX7_sofa_2 13 rfl rfl)
theorem dX7_sofa_60 : decode cX7_sofa 60 = .ok (.aload_n 0, 1) := dk_42 (dk_at dksX7_sofa_2 14 rfl rfl)
theorem dX7_sofa_61 : decode cX7_sofa 61 = .ok (.invokevirtual 43, 3) := dk_182 0 43 (dk_at dksX7_sofa_2 15 rfl rfl)
theorem dX7_sofa_64 : decode cX7_sofa 64 = .ok (.getfield 62, 3) := dk_180 0 62 (dk_at dksX7_sofa_2 18 rfl rfl)
theorem dX7_sofa_67 : decode cX7_sofa 67 = .ok (.getstatic 147, 3) := dk_178 0 147 (dk_at dksX7_sofa_2 21 rfl rfl)
theorem dX7_sofa_70 : decode cX7_sofa 70 = .ok (.if_acmp .eq 16, 3) := dk_165 0 16 (dk_at dksX7_sofa_3 0 rfl rfl)
theorem dX7_sofa_73 : decode cX7_sofa 73 = .ok (.aload_n 0, 1) := dk_42 (dk_at dksX7_sofa_3 3 rfl rfl)
theorem dX7_sofa_74 : decode cX7_sofa 74 = .ok (.invokevirtual 150, 3) := dk_182 0 150 (dk_at dksX7_sofa_3 4 rfl rfl)
theorem dX7_sofa_77 : decode cX7_sofa 77 = .ok (.aload_n 0, 1) := dk_42 (dk_at dksX7_sofa_3 7 rfl rfl)
theorem dX7_sofa_78 : decode cX7_sofa 78 = .ok (.ldc 141, 2) := dk_18 141 (dk_at dksX7_sofa_3 8 rfl rfl)
theorem dX7_sofa_80 : decode cX7_sofa 80 = .ok (.invokevirtual 69, 3) := dk_182 0 69 (dk_at dksX7_sofa_3 10 rfl rfl)
theorem dX7_sofa_83 : decode cX7_sofa 83 = .ok (.goto (-23), 3) := dk_167 255 233 (dk_at dksX7_sofa_3 13 rfl rfl)
theorem dX7_sofa_86 : decode cX7_sofa 86 = .ok (.return_, 1) := dk_177 (dk_at dksX7_sofa_3 16 rfl rfl)
theorem fpX7_130_2 (n d : String) : sd_Fp ⟨"SofaDig$Reader", n, d⟩ 130 2 1 .int := ⟨(RX3, TX3, 12), "SofaDig$Sofa", tyX3, rfl, by decide, rfl, in_X3, Or.inl rfl, tyX3_ok, nmX3, rfl, Or.inl ⟨rfl, Or.inr ⟨_, q247⟩⟩⟩
theorem fpX7_138_2 (n d : String) : sd_Fp ⟨"SofaDig$Reader", n, d⟩ 138 2 0 .int := ⟨(RX3, TX3, 12), "SofaDig$Sofa", tyX3, rfl, by decide, rfl, in_X3, Or.inl rfl, tyX3_ok, nmX3, rfl, Or.inl ⟨rfl, Or.inr ⟨_, q244⟩⟩⟩
abbrev mX7_sofa : sd_Y := (yX7_sofa, cX7_sofa, 1, none, none)
def fX7_sofa_b60 (G : sd_G) (k60 : Nat → sd_M (Unit ⊕ Nat)) (w0 : Nat) : sd_M (Unit ⊕ Nat) :=
  sd_bnd (sd_isC G 6 w0) fun _ =>
  sd_bnd (fX7_now G w0) fun r3 =>
  sd_bnd (sd_getR G 8 0 r3) fun v4 =>
  if v4 = (sd_ad G 7) then (
    sd_ret (.inl ()))
  else (
    sd_bnd (sd_isC G 6 w0) fun _ =>
    sd_bx (fX7_line G w0) (fun e74 =>
      sd_ret (.inr e74)) fun _ =>
    sd_bnd (sd_isC G 6 w0) fun _ =>
    sd_bx (fX7_take_2 G w0 (sd_ad G 105)) (fun e80 =>
      sd_ret (.inr e80)) fun _ =>
    k60 w0)
set_option maxHeartbeats 4000000 in
theorem sX7_sofa_b60 (l : Launch) (hl : l.stackTraces = false) (G : sd_G) (a0 : Nat) (ρ : Unit ⊕ Nat) (h2 : sd_H) (cT : Nat × Nat) (k60 : Nat → sd_M (Unit ⊕ Nat)) (Hk60 : ∀ (q : Nat) (h : sd_H) (c : Nat × Nat), k60 q h = some (ρ, c, h2) → sd_J mX7_sofa ((l, G), (113, 4848), [.ref a0], ((sd_ox sd_oV) ρ, h2), cT) 60 [(0, .ref q)] [] h c) (w0 : Nat) (h : sd_H) (c : Nat × Nat) (hf : fX7_sofa_b60 G k60 w0 h = some (ρ, c, h2)) : sd_J mX7_sofa ((l, G), (113, 4848), [.ref a0], ((sd_ox sd_oV) ρ, h2), cT) 60 [(0, .ref w0)] [] h c := by
  unfold fX7_sofa_b60 at hf
  refine sj_aload_n 0 dX7_sofa_60 rfl ?_
  obtain ⟨fs61, he61, hf⟩ := sd_isC_some hf
  refine sj_cR (rest := []) (fun _ _ _ e => sj_runV (n := 0) (As := []) (rest := []) (sX7_now l G w0 h _ _ _ e) he61 rfl rfl rfl rfl q991 q993 qs7 q134 q994 (by decide +kernel) rfl rfl ⟨Nat.le_of_ble_eq_true rfl, Nat.le_of_ble_eq_true rfl⟩ rfl (Nat.le_of_ble_eq_true rfl) dX7_sofa_61) hf (fun r3 h c hf => ?_)
  refine sj_getR fdX7_62_8 hf dX7_sofa_64 (fun v4 hf => ?_)
  refine sj_gets (v := .ref (sd_ad G 7)) 14 rfl rfl ⟨Or.inl q1091, rfl⟩ dX7_sofa_67 ?_
  refine sj_aceqR 86 hf dX7_sofa_70 (by decide) (fun g70 hf => ?_) (fun g70 hf => ?_)
  · exact sj_vret (o := (sd_ox sd_oV)) hf rfl rfl rfl dX7_sofa_86
  · refine sj_aload_n 0 dX7_sofa_73 rfl ?_
    obtain ⟨fs74, he74, hf⟩ := sd_isC_some hf
    refine sj_xV (rest := []) (fun _ _ _ e => sj_runV (n := 0) (As := []) (rest := []) (sX7_line l hl G w0 h _ _ _ e) he74 rfl rfl rfl rfl q1092 q1094 qs14 q134 q1095 (by decide +kernel) rfl rfl ⟨Nat.le_of_ble_eq_true rfl, Nat.le_of_ble_eq_true rfl⟩ rfl (Nat.le_of_ble_eq_true rfl) dX7_sofa_74) hf (fun e74 h c hf => ?_) (fun h c hf => ?_)
    · exact sj_outX hf rfl (by intro x hx; cases hx)
    refine sj_aload_n 0 dX7_sofa_77 rfl ?_
    refine sj_ldcS 5 rfl dX7_sofa_78 ?_
    obtain ⟨fs80, he80, hf⟩ := sd_isC_some hf
    refine sj_xV (rest := []) (fun _ _ _ e => sj_runV (n := 1) (As := [.ref (sd_ad G 105)]) (rest := []) (sX7_take_2 l hl G w0 (sd_ad G 105) h _ _ _ e) he80 rfl rfl rfl rfl q1085 q1087 qs13 q134 q1088 (by decide +kernel) rfl rfl ⟨Nat.le_of_ble_eq_true rfl, Nat.le_of_ble_eq_true rfl⟩ rfl (Nat.le_of_ble_eq_true rfl) dX7_sofa_80) hf (fun e80 h c hf => ?_) (fun h c hf => ?_)
    · exact sj_outX hf rfl (by intro x hx; cases hx)
    refine sj_goto 60 dX7_sofa_83 (by decide) ?_
    exact sj_loc [0] rfl (Hk60 w0 _ _ hf)
theorem sX7_sofa_b60_loop (l : Launch) (hl : l.stackTraces = false) (G : sd_G) (a0 : Nat) (ρ : Unit ⊕ Nat) (h2 : sd_H) (cT : Nat × Nat) (n : Nat) : ∀ (q : Nat) (h : sd_H) (c : Nat × Nat), sd_loop (fun k s => fX7_sofa_b60 G k s) n q h = some (ρ, c, h2) → sd_J mX7_sofa ((l, G), (113, 4848), [.ref a0], ((sd_ox sd_oV) ρ, h2), cT) 60 [(0, .ref q)] [] h c := by
  induction n with
  | zero => intro q h c hf; cases hf
  | succ n ih => intro q h c hf; exact sX7_sofa_b60 l hl G a0 ρ h2 cT _ ih _ _ _ hf
def fX7_sofa_b45 (G : sd_G) (w0 : Nat) : sd_M (Unit ⊕ Nat) :=
  sd_bnd (sd_getI G 6 3 w0) fun v2 =>
  if v2 = 0 then (
    sd_loop (fun k s => fX7_sofa_b60 G k s) sd_FU w0)
  else (
    sd_bnd (sd_getR G 6 4 w0) fun v5 =>
    sd_bnd (sd_isC G 2 v5) fun _ =>
    sd_bnd (fX3_lay G v5) fun r6 =>
    sd_loop (fun k s => fX7_sofa_b60 G k s) sd_FU w0)
set_option maxHeartbeats 4000000 in
theorem sX7_sofa_b45 (l : Launch) (hl : l.stackTraces = false) (G : sd_G) (a0 : Nat) (ρ : Unit ⊕ Nat) (h2 : sd_H) (cT : Nat × Nat) (w0 : Nat) (h : sd_H) (c : Nat × Nat) (hf : fX7_sofa_b45 G w0 h = some (ρ, c, h2)) : sd_J mX7_sofa ((l, G), (113, 4848), [.ref a0], ((sd_ox sd_oV) ρ, h2), cT) 45 [(0, .ref w0)] [] h c := by
  unfold fX7_sofa_b45 at hf
  refine sj_aload_n 0 dX7_sofa_45 rfl ?_
  refine sj_getI fdX7_75_6 hf dX7_sofa_46 (fun v2 hf => ?_)
  refine sj_ifeq 60 hf dX7_sofa_49 (by decide) (fun g49 hf => ?_) (fun g49 hf => ?_)
  · exact sj_loc [0] rfl (sX7_sofa_b60_loop l hl G a0 ρ h2 cT sd_FU w0 _ _ hf)
  · refine sj_aload_n 0 dX7_sofa_52 rfl ?_
    refine sj_getR fdX7_12_6 hf dX7_sofa_53 (fun v5 hf => ?_)
    obtain ⟨fs56, he56, hf⟩ := sd_isC_some hf
    refine sj_cR (rest := []) (fun _ _ _ e => sj_runV (n := 0) (As := []) (rest := []) (sX3_lay l G v5 h _ _ _ e) he56 rfl rfl rfl rfl q1090 q302 q303 q118 q304 (by decide +kernel) rfl rfl ⟨Nat.le_of_ble_eq_true rfl, Nat.le_of_ble_eq_true rfl⟩ rfl (Nat.le_of_ble_eq_true rfl) dX7_sofa_56) hf (fun r6 h c hf => ?_)
    refine sj_pop dX7_sofa_59 rfl ?_
    exact sj_loc [0] rfl (sX7_sofa_b60_loop l hl G a0 ρ h2 cT sd_FU w0 _ _ hf)
def fX7_sofa (G : sd_G) (a0 : Nat) : sd_M (Unit ⊕ Nat) :=
  sd_bnd (sd_isC G 6 a0) fun _ =>
  sd_bnd (fX7_takeIf G a0 (sd_ad G 103)) fun r1 =>
  if r1 = 0 then (
    fX7_sofa_b45 G a0)
  else (
    sd_bnd (sd_getR G 6 4 a0) fun v7 =>
    sd_bnd (sd_isC G 6 a0) fun _ =>
    sd_bx (fX7_number G a0 2 8) (fun e17 =>
      sd_ret (.inr e17)) fun r8 =>
    sd_bnd (sd_put 2 1 .int v7 (.int r8)) fun _ =>
    sd_bnd (sd_getR G 6 4 a0) fun v9 =>
    sd_bnd (sd_isC G 6 a0) fun _ =>
    sd_bx (fX7_numberOf G a0 (sd_ad G 104) 2 10) (fun e33 =>
      sd_ret (.inr e33)) fun r10 =>
    sd_bnd (sd_put 2 0 .int v9 (.int r10)) fun _ =>
    sd_bnd (sd_isC G 6 a0) fun _ =>
    sd_bx (fX7_take_2 G a0 (sd_ad G 105)) (fun e42 =>
      sd_ret (.inr e42)) fun _ =>
    fX7_sofa_b45 G a0)
set_option maxHeartbeats 4000000 in
theorem sX7_sofa (l : Launch) (hl : l.stackTraces = false) (G : sd_G) (a0 : Nat) (h : sd_H) (ρ : Unit ⊕ Nat) (cT : Nat × Nat) (h2 : sd_H) (hf : fX7_sofa G a0 h = some (ρ, cT, h2)) : sd_Met mX7_sofa ((l, G), (113, 4848), [.ref a0], ((sd_ox sd_oV) ρ, h2), cT) h := by
  refine sd_entry (plainFor_of_name rfl) rfl (Nat.le_of_ble_eq_true rfl) ?_
  show sd_J mX7_sofa ((l, G), (113, 4848), [.ref a0], ((sd_ox sd_oV) ρ, h2), cT) 0 [(0, .ref a0)] [] h cT
  unfold fX7_sofa at hf
  refine sj_aload_n 0 dX7_sofa_0 rfl ?_
  refine sj_ldcS 3 rfl dX7_sofa_1 ?_
  obtain ⟨fs3, he3, hf⟩ := sd_isC_some hf
  refine sj_cI (rest := []) (fun _ _ _ e => sj_runV (n := 1) (As := [.ref (sd_ad G 103)]) (rest := []) (sX7_takeIf l G a0 (sd_ad G 103) h _ _ _ e) he3 rfl rfl rfl rfl q987 q989 qs6 q134 q990 (by decide +kernel) rfl rfl ⟨Nat.le_of_ble_eq_true rfl, Nat.le_of_ble_eq_true rfl⟩ rfl (Nat.le_of_ble_eq_true rfl) dX7_sofa_3) hf (fun r1 h c hf => ?_)
  refine sj_ifeq 45 hf dX7_sofa_6 (by decide) (fun g6 hf => ?_) (fun g6 hf => ?_)
  · exact sj_loc [0] rfl (sX7_sofa_b45 l hl G a0 ρ h2 cT a0 _ _ hf)
  · refine sj_aload_n 0 dX7_sofa_9 rfl ?_
    refine sj_getR fdX7_12_6 hf dX7_sofa_10 (fun v7 hf => ?_)
    refine sj_aload_n 0 dX7_sofa_13 rfl ?_
    refine sj_iconst (v := 2) dX7_sofa_14 (by decide) ?_
    refine sj_bipush (v := 8) dX7_sofa_15 (by decide) ?_
    obtain ⟨fs17, he17, hf⟩ := sd_isC_some hf
    refine sj_xI (rest := [.ref v7]) (fun _ _ _ e => sj_runV (n := 2) (As := [.int 2, .int 8]) (rest := [.ref v7]) (sX7_number l hl G a0 2 8 h _ _ _ e) he17 rfl rfl rfl rfl q1021 q1023 qs8 q134 q1024 (by decide +kernel) rfl rfl ⟨Nat.le_of_ble_eq_true rfl, Nat.le_of_ble_eq_true rfl⟩ rfl (Nat.le_of_ble_eq_true rfl) dX7_sofa_17) hf (fun e17 h c hf => ?_) (fun r8 h c hf => ?_)
    · exact sj_outX hf rfl (by intro x hx; cases hx)
    refine sj_put (fpX7_130_2 _ _) hf dX7_sofa_20 (fun h hf => ?_)
    refine sj_aload_n 0 dX7_sofa_23 rfl ?_
    refine sj_getR fdX7_12_6 hf dX7_sofa_24 (fun v9 hf => ?_)
    refine sj_aload_n 0 dX7_sofa_27 rfl ?_
    refine sj_ldcS 4 rfl dX7_sofa_28 ?_
    refine sj_iconst (v := 2) dX7_sofa_30 (by decide) ?_
    refine sj_bipush (v := 10) dX7_sofa_31 (by decide) ?_
    obtain ⟨fs33, he33, hf⟩ := sd_isC_some hf
    refine sj_xI (rest := [.ref v9]) (fun _ _ _ e => sj_runV (n := 3) (As := [.ref (sd_ad G 104), .int 2, .int 10]) (rest := [.ref v9]) (sX7_numberOf l hl G a0 (sd_ad G 104) 2 10 h _ _ _ e) he33 rfl rfl rfl rfl q1081 q1083 qs12 q134 q1084 (by decide +kernel) rfl rfl ⟨Nat.le_of_ble_eq_true rfl, Nat.le_of_ble_eq_true rfl⟩ rfl (Nat.le_of_ble_eq_true rfl) dX7_sofa_33) hf (fun e33 h c hf => ?_) (fun r10 h c hf => ?_)
    · exact sj_outX hf rfl (by intro x hx; cases hx)
    refine sj_put (fpX7_138_2 _ _) hf dX7_sofa_36 (fun h hf => ?_)
    refine sj_aload_n 0 dX7_sofa_39 rfl ?_
    refine sj_ldcS 5 rfl dX7_sofa_40 ?_
    obtain ⟨fs42, he42, hf⟩ := sd_isC_some hf
    refine sj_xV (rest := []) (fun _ _ _ e => sj_runV (n := 1) (As := [.ref (sd_ad G 105)]) (rest := []) (sX7_take_2 l hl G a0 (sd_ad G 105) h _ _ _ e) he42 rfl rfl rfl rfl q1085 q1087 qs13 q134 q1088 (by decide +kernel) rfl rfl ⟨Nat.le_of_ble_eq_true rfl, Nat.le_of_ble_eq_true rfl⟩ rfl (Nat.le_of_ble_eq_true rfl) dX7_sofa_42) hf (fun e42 h c hf => ?_) (fun h c hf => ?_)
    · exact sj_outX hf rfl (by intro x hx; cases hx)
    exact sj_loc [0] rfl (sX7_sofa_b45 l hl G a0 ρ h2 cT a0 _ _ hf)
/-! SofaDig$Reader.read()LSofaDig$Sofa; -/
abbrev cX7_read : ByteArray := prog_18_method_9_code
def yX7_read : MethodName := ⟨RX7, "read", "()LSofaDig$Sofa;"⟩
def dkwX7_read_1 : List UInt8 := [181, 0, 12, 42, 182, 0, 73, 42, 180, 0, 12, 176]
abbrev dktX7_read_1 : List UInt8 := dkwX7_read_1 ++ []
def dkwX7_read_0 : List UInt8 := [42, 182, 0, 73, 42, 3, 181, 0, 29, 42, 4, 181, 0, 75, 42, 187, 0, 9, 89, 183, 0, 11]
abbrev dktX7_read_0 : List UInt8 := dkwX7_read_0 ++ dktX7_read_1
theorem dksX7_read_0 : cX7_read.data.toList.drop 0 = dktX7_read_0 := by decide +kernel
theorem dksX7_read_1 : cX7_read.data.toList.drop 22 = dktX7_read_1 := dk_seg dksX7_read_0 22 rfl rfl
theorem dX7_read_0 : decode cX7_read 0 = .ok (.aload_n 0, 1) := dk_42 (dk_at dksX7_read_0 0 rfl rfl)
theorem dX7_read_1 : decode cX7_read 1 = .ok (.invokevirtual 73, 3) := dk_182 0 73 (dk_at dksX7_read_0 1 rfl rfl)
theorem dX7_read_4 : decode cX7_read 4 = .ok (.aload_n 0, 1) := dk_42 (dk_at dksX7_read_0 4 rfl rfl)
theorem dX7_read_5 : decode cX7_read 5 = .ok (.iconst 0, 1) := dk_3 (dk_at dksX7_read_0 5 rfl rfl)
theorem dX7_read_6 : decode cX7_read 6 = .ok (.putfield 29, 3) := dk_181 0 29 (dk_at dksX7_read_0 6 rfl rfl)
theorem dX7_read_9 : decode cX7_read 9 = .ok (.aload_n 0, 1) := dk_42 (dk_at dksX7_read_0 9 rfl rfl)
theorem dX7_read_10 : decode cX7_read 10 = .ok (.iconst 1, 1) := dk_4 (dk_at dksX7_read_0 10 rfl rfl)
theorem dX7_read_11 : decode cX7_read 11 = .ok (.putfield 75, 3) := dk_181 0 75 (dk_at dksX7_read_0 11 rfl rfl)
theorem dX7_read_14 : decode cX7_read 14 = .ok (.aload_n 0, 1) := dk_42 (dk_at dksX7_read_0 14 rfl rfl)
theorem dX7_read_15 : decode cX7_read 15 = .ok (.new 9, 3) := dk_187 0 9 (dk_at dksX7_read_0 15 rfl rfl)
theorem dX7_read_18 : decode cX7_read 18 = .ok (.dup, 1) := dk_89 (dk_at dksX7_read_0 18 rfl rfl)
theorem dX7_read_19 : decode cX7_read 19 = .ok (.invokespecial 11, 3) := dk_183 0 11 (dk_at dksX7_read_0 19 rfl rfl)
theorem dX7_read_22 : decode cX7_read 22 = .ok (.putfield 12, 3) := dk_181 0 12 (dk_at dksX7_read_1 0 rfl rfl)
theorem dX7_read_25 : decode cX7_read 25 = .ok (.aload_n 0, 1) := dk_42 (dk_at dksX7_read_1 3 rfl rfl)
theorem dX7_read_26 : decode cX7_read 26 = .ok (.invokevirtual 73, 3) := dk_182 0 73 (dk_at dksX7_read_1 4 rfl rfl)
theorem dX7_read_29 : decode cX7_read 29 = .ok (.aload_n 0, 1) := dk_42 (dk_at dksX7_read_1 7 rfl rfl)
theorem dX7_read_30 : decode cX7_read 30 = .ok (.getfield 12, 3) := dk_180 0 12 (dk_at dksX7_read_1 8 rfl rfl)
theorem dX7_read_33 : decode cX7_read 33 = .ok (.areturn, 1) := dk_176 (dk_at dksX7_read_1 11 rfl rfl)
theorem fpX7_75_6 (n d : String) : sd_Fp ⟨"SofaDig$Reader", n, d⟩ 75 6 3 .boolean := ⟨(RX7, TX7, 6), "SofaDig$Reader", tyX7, rfl, by decide, rfl, in_X7, Or.inl rfl, tyX7_ok, nmX7, rfl, Or.inl ⟨rfl, Or.inl q962⟩⟩
abbrev mX7_read : sd_Y := (yX7_read, cX7_read, 1, some (.object "SofaDig$Sofa"), none)
def fX7_read (G : sd_G) (a0 : Nat) : sd_M (Nat ⊕ Nat) :=
  sd_bnd (sd_isC G 6 a0) fun _ =>
  sd_bx (fX7_sofa G a0) (fun e1 =>
    sd_ret (.inr e1)) fun _ =>
  sd_bnd (sd_put 6 1 .int a0 (.int 0)) fun _ =>
  sd_bnd (sd_put 6 3 .boolean a0 (.int 1)) fun _ =>
  sd_bnd (sd_new 2 12 [.int 0, .int 0, .null, .null, .null, .null, .null, .int 0, .int 0, .int 0, .int 0, .int 0]) fun o1 =>
  sd_bnd (fX3_init G o1) fun _ =>
  sd_bnd (sd_put 6 4 (.object "SofaDig$Sofa") a0 (.ref o1)) fun _ =>
  sd_bnd (sd_isC G 6 a0) fun _ =>
  sd_bx (fX7_sofa G a0) (fun e26 =>
    sd_ret (.inr e26)) fun _ =>
  sd_bnd (sd_getR G 6 4 a0) fun v2 =>
  sd_ret (.inl v2)
set_option maxHeartbeats 4000000 in
theorem sX7_read (l : Launch) (hl : l.stackTraces = false) (G : sd_G) (a0 : Nat) (h : sd_H) (ρ : Nat ⊕ Nat) (cT : Nat × Nat) (h2 : sd_H) (hf : fX7_read G a0 h = some (ρ, cT, h2)) : sd_Met mX7_read ((l, G), (114, 4868), [.ref a0], ((sd_ox sd_oR) ρ, h2), cT) h := by
  refine sd_entry (plainFor_of_name rfl) rfl (Nat.le_of_ble_eq_true rfl) ?_
  show sd_J mX7_read ((l, G), (114, 4868), [.ref a0], ((sd_ox sd_oR) ρ, h2), cT) 0 [(0, .ref a0)] [] h cT
  unfold fX7_read at hf
  refine sj_aload_n 0 dX7_read_0 rfl ?_
  obtain ⟨fs1, he1, hf⟩ := sd_isC_some hf
  refine sj_xV (rest := []) (fun _ _ _ e => sj_runV (n := 0) (As := []) (rest := []) (sX7_sofa l hl G a0 h _ _ _ e) he1 rfl rfl rfl rfl q982 q984 qs5 q134 q985 (by decide +kernel) rfl rfl ⟨Nat.le_of_ble_eq_true rfl, Nat.le_of_ble_eq_true rfl⟩ rfl (Nat.le_of_ble_eq_true rfl) dX7_read_1) hf (fun e1 h c hf => ?_) (fun h c hf => ?_)
  · exact sj_outX hf rfl (by intro x hx; cases hx)
  refine sj_aload_n 0 dX7_read_4 rfl ?_
  refine sj_iconst (v := 0) dX7_read_5 (by decide) ?_
  refine sj_put (fpX7_29_6 _ _) hf dX7_read_6 (fun h hf => ?_)
  refine sj_aload_n 0 dX7_read_9 rfl ?_
  refine sj_iconst (v := 1) dX7_read_10 (by decide) ?_
  refine sj_put (fpX7_75_6 _ _) hf dX7_read_11 (fun h hf => ?_)
  refine sj_aload_n 0 dX7_read_14 rfl ?_
  refine sj_new fnX7_9 hf dX7_read_15 (fun o1 h c hf => ?_)
  refine sj_dup dX7_read_18 rfl ?_
  refine sj_cV (rest := [.ref o1, .ref a0]) (fun _ _ _ e => sj_runIN (n := 0) (a := o1) (As := []) (rest := [.ref o1, .ref a0]) (sX3_init l G o1 h _ _ _ e) rfl rfl q926 q209 q118 q210 rfl (by decide +kernel) rfl rfl (fun _ z => by cases z) ⟨Nat.le_of_ble_eq_true rfl, Nat.le_of_ble_eq_true rfl⟩ rfl (Nat.le_of_ble_eq_true rfl) dX7_read_19) hf (fun h c hf => ?_)
  refine sj_put (fpX7_12_6 _ _) hf dX7_read_22 (fun h hf => ?_)
  refine sj_aload_n 0 dX7_read_25 rfl ?_
  obtain ⟨fs26, he26, hf⟩ := sd_isC_some hf
  refine sj_xV (rest := []) (fun _ _ _ e => sj_runV (n := 0) (As := []) (rest := []) (sX7_sofa l hl G a0 h _ _ _ e) he26 rfl rfl rfl rfl q982 q984 qs5 q134 q985 (by decide +kernel) rfl rfl ⟨Nat.le_of_ble_eq_true rfl, Nat.le_of_ble_eq_true rfl⟩ rfl (Nat.le_of_ble_eq_true rfl) dX7_read_26) hf (fun e26 h c hf => ?_) (fun h c hf => ?_)
  · exact sj_outX hf rfl (by intro x hx; cases hx)
  refine sj_aload_n 0 dX7_read_29 rfl ?_
  refine sj_getR fdX7_12_6 hf dX7_read_30 (fun v2 hf => ?_)
  exact sj_aret (o := (sd_ox sd_oR)) hf rfl rfl rfl (Or.inl ⟨_, rfl⟩) dX7_read_33
