set_option maxRecDepth 100000
theorem q242 : (Jvm.Cond.fieldLinkNest "SofaDig$Seen" (13 : Nat) "SofaDig$Sofa" "strata" "I" "SofaDig") ∈ lw_tbl := lw_at lw_m1 127 rfl
theorem q256 : (Jvm.Cond.fieldLinkNest "SofaDig$Sure" (21 : Nat) "SofaDig$Sofa" "finds" "Ljava/util/ArrayList;" "SofaDig") ∈ lw_tbl := lw_at lw_m1 141 rfl
theorem q262 : (Jvm.Cond.fieldLinkNest "SofaDig$Sure" (33 : Nat) "SofaDig$Sofa" "ends" "[I" "SofaDig") ∈ lw_tbl := lw_at lw_m1 147 rfl
theorem q1437 : (Jvm.Cond.static ({ cls := "java/lang/Integer", name := "compare", desc := "(II)I" } : Jvm.MethodName)) ∈ lw_all := lw_g (lw_at lw_m6 122 rfl) rfl
theorem q2600 : (Jvm.Cond.code ({ cls := "SofaDig$Compared", name := "holds", desc := "(LSofaDig$Sofa;)Z" } : Jvm.MethodName) prog_3_method_2_code (3 : Nat) (Option.some Jvm.ClassFile.FieldType.boolean)) ∈ lw_all := lw_g (lw_at lw_m11 85 rfl) rfl
theorem q2601 : (Jvm.Cond.methodLink "SofaDig$Compared" (20 : Nat) ({ cls := "SofaDig$Sum", name := "of", desc := "(LSofaDig$Sofa;)I" } : Jvm.MethodName)) ∈ lw_all := lw_g (lw_at lw_m11 86 rfl) rfl
theorem q2677 : (Jvm.Cond.methodLink "SofaDig$Compared" (26 : Nat) ({ cls := "java/lang/Integer", name := "compare", desc := "(II)I" } : Jvm.MethodName)) ∈ lw_all := lw_g (lw_at lw_m11 162 rfl) rfl
theorem q2678 : (Jvm.Cond.methodLink "SofaDig$Compared" (32 : Nat) ({ cls := "java/lang/String", name := "charAt", desc := "(I)C" } : Jvm.MethodName)) ∈ lw_all := lw_g (lw_at lw_m11 163 rfl) rfl
theorem q2679 : (Jvm.Cond.methodLink "SofaDig$Compared" (38 : Nat) ({ cls := "java/lang/String", name := "length", desc := "()I" } : Jvm.MethodName)) ∈ lw_all := lw_g (lw_at lw_m11 164 rfl) rfl
theorem q2693 : (Jvm.Cond.code ({ cls := "SofaDig$Seen", name := "holds", desc := "(LSofaDig$Sofa;)Z" } : Jvm.MethodName) prog_20_method_2_code (3 : Nat) (Option.some Jvm.ClassFile.FieldType.boolean)) ∈ lw_all := lw_g (lw_at lw_m11 178 rfl) rfl
theorem q2694 : (Jvm.Cond.methodLink "SofaDig$Seen" (18 : Nat) ({ cls := "SofaDig$Sofa", name := "isSeenIn", desc := "(II)Z" } : Jvm.MethodName)) ∈ lw_all := lw_g (lw_at lw_m11 179 rfl) rfl
theorem q2711 : (Jvm.Cond.code ({ cls := "SofaDig$Sure", name := "holds", desc := "(LSofaDig$Sofa;)Z" } : Jvm.MethodName) prog_32_method_2_code (3 : Nat) (Option.some Jvm.ClassFile.FieldType.boolean)) ∈ lw_all := lw_g (lw_at lw_m11 196 rfl) rfl
theorem q2712 : (Jvm.Cond.methodLink "SofaDig$Sure" (15 : Nat) ({ cls := "SofaDig$Sum", name := "of", desc := "(LSofaDig$Sofa;)I" } : Jvm.MethodName)) ∈ lw_all := lw_g (lw_at lw_m11 197 rfl) rfl
theorem q2713 : (Jvm.Cond.methodLink "SofaDig$Sure" (27 : Nat) ({ cls := "java/util/ArrayList", name := "size", desc := "()I" } : Jvm.MethodName)) ∈ lw_all := lw_g (lw_at lw_m11 198 rfl) rfl
theorem q2719 : (Jvm.Cond.code ({ cls := "SofaDig$Test$1", name := "holds", desc := "(LSofaDig$Sofa;)Z" } : Jvm.MethodName) prog_35_method_2_code (2 : Nat) (Option.some Jvm.ClassFile.FieldType.boolean)) ∈ lw_all := lw_g (lw_at lw_m11 204 rfl) rfl
/-! SofaDig$Seen.holds(LSofaDig$Sofa;)Z -/
abbrev cX22_holds : ByteArray := prog_20_method_2_code
def yX22_holds : MethodName := ⟨RX22, "holds", "(LSofaDig$Sofa;)Z"⟩
def dkwX22_holds_1 : List UInt8 := [132, 2, 1, 167, 255, 231, 3, 172]
abbrev dktX22_holds_1 : List UInt8 := dkwX22_holds_1 ++ []
def dkwX22_holds_0 : List UInt8 := [3, 61, 28, 43, 180, 0, 13, 162, 0, 23, 43, 28, 42, 180, 0, 7, 182, 0, 18, 153, 0, 5, 4, 172]
abbrev dktX22_holds_0 : List UInt8 := dkwX22_holds_0 ++ dktX22_holds_1
theorem dksX22_holds_0 : cX22_holds.data.toList.drop 0 = dktX22_holds_0 := by decide +kernel
theorem dksX22_holds_1 : cX22_holds.data.toList.drop 24 = dktX22_holds_1 := dk_seg dksX22_holds_0 24 rfl rfl
theorem dX22_holds_0 : decode cX22_holds 0 = .ok (.iconst 0, 1) := dk_3 (dk_at dksX22_holds_0 0 rfl rfl)
theorem dX22_holds_1 : decode cX22_holds 1 = .ok (.istore_n 2, 1) := dk_61 (dk_at dksX22_holds_0 1 rfl rfl)
theorem dX22_holds_2 : decode cX22_holds 2 = .ok (.iload_n 2, 1) := dk_28 (dk_at dksX22_holds_0 2 rfl rfl)
theorem dX22_holds_3 : decode cX22_holds 3 = .ok (.aload_n 1, 1) := dk_43 (dk_at dksX22_holds_0 3 rfl rfl)
theorem dX22_holds_4 : decode cX22_holds 4 = .ok (.getfield 13, 3) := dk_180 0 13 (dk_at dksX22_holds_0 4 rfl rfl)
theorem dX22_holds_7 : decode cX22_holds 7 = .ok (.if_icmp .ge 23, 3) := dk_162 0 23 (dk_at dksX22_holds_0 7 rfl rfl)
theorem dX22_holds_10 : decode cX22_holds 10 = .ok (.aload_n 1, 1) := dk_43 (dk_at dksX22_holds_0 10 rfl rfl)
theorem dX22_holds_11 : decode cX22_holds 11 = .ok (.iload_n 2, 1) := dk_28 (dk_at dksX22_holds_0 11 rfl rfl)
theorem dX22_holds_12 : decode cX22_holds 12 = .ok (.aload_n 0, 1) := dk_42 (dk_at dksX22_holds_0 12 rfl rfl)
theorem dX22_holds_13 : decode cX22_holds 13 = .ok (.getfield 7, 3) := dk_180 0 7 (dk_at dksX22_holds_0 13 rfl rfl)
theorem dX22_holds_16 : decode cX22_holds 16 = .ok (.invokevirtual 18, 3) := dk_182 0 18 (dk_at dksX22_holds_0 16 rfl rfl)
theorem dX22_holds_19 : decode cX22_holds 19 = .ok (.ifCond .eq 5, 3) := dk_153 0 5 (dk_at dksX22_holds_0 19 rfl rfl)
theorem dX22_holds_22 : decode cX22_holds 22 = .ok (.iconst 1, 1) := dk_4 (dk_at dksX22_holds_0 22 rfl rfl)
theorem dX22_holds_23 : decode cX22_holds 23 = .ok (.ireturn, 1) := dk_172 (dk_at dksX22_holds_0 23 rfl rfl)
theorem dX22_holds_24 : decode cX22_holds 24 = .ok (.iinc 2 1, 3) := dk_132 2 1 (dk_at dksX22_holds_1 0 rfl rfl)
theorem dX22_holds_27 : decode cX22_holds 27 = .ok (.goto (-25), 3) := dk_167 255 231 (dk_at dksX22_holds_1 3 rfl rfl)
theorem dX22_holds_30 : decode cX22_holds 30 = .ok (.iconst 0, 1) := dk_3 (dk_at dksX22_holds_1 6 rfl rfl)
theorem dX22_holds_31 : decode cX22_holds 31 = .ok (.ireturn, 1) := dk_172 (dk_at dksX22_holds_1 7 rfl rfl)
theorem fdX22_13_2 : sd_Fd "SofaDig$Seen" 13 2 0 := ⟨(RX3, TX3, 12), "SofaDig$Sofa", rfl, by decide, rfl, in_X3, Or.inl rfl, Or.inr ⟨_, q242⟩⟩
theorem fdX22_7_20 : sd_Fd "SofaDig$Seen" 7 20 0 := ⟨(RX22, TX22, 1), "SofaDig$Seen", rfl, by decide, rfl, in_X22, Or.inl rfl, Or.inl q2024⟩
abbrev mX22_holds : sd_Y := (yX22_holds, cX22_holds, 3, some (.boolean), none)
def fX22_holds_b2 (G : sd_G) (k2 : Nat × Nat × Int32 → sd_M Int32) (w0 : Nat) (w1 : Nat) (w2 : Int32) : sd_M Int32 :=
  sd_bnd (sd_getI G 2 0 w1) fun v1 =>
  if v1 ≤ w2 then (
    sd_ret 0)
  else (
    sd_bnd (sd_getI G 20 0 w0) fun v2 =>
    sd_bnd (sd_isC G 2 w1) fun _ =>
    sd_bnd (fX3_isSeenIn G w1 w2 v2) fun r3 =>
    if r3 = 0 then (
      sd_bnd (sd_ret (w2 + 1)) fun x4 =>
      k2 (w0, w1, x4))
    else (
      sd_ret 1))
set_option maxHeartbeats 4000000 in
theorem sX22_holds_b2 (l : Launch) (G : sd_G) (a0 : Nat) (a1 : Nat) (ρ : Int32) (h2 : sd_H) (cT : Nat × Nat) (k2 : Nat × Nat × Int32 → sd_M Int32) (Hk2 : ∀ (q : Nat × Nat × Int32) (h : sd_H) (c : Nat × Nat), k2 q h = some (ρ, c, h2) → sd_J mX22_holds ((l, G), (4, 88), [.ref a0, .ref a1], (sd_oI ρ, h2), cT) 2 [(0, .ref q.1), (1, .ref q.2.1), (2, .int q.2.2)] [] h c) (w0 : Nat) (w1 : Nat) (w2 : Int32) (h : sd_H) (c : Nat × Nat) (hf : fX22_holds_b2 G k2 w0 w1 w2 h = some (ρ, c, h2)) : sd_J mX22_holds ((l, G), (4, 88), [.ref a0, .ref a1], (sd_oI ρ, h2), cT) 2 [(0, .ref w0), (1, .ref w1), (2, .int w2)] [] h c := by
  unfold fX22_holds_b2 at hf
  refine sj_iload_n 2 dX22_holds_2 rfl ?_
  refine sj_aload_n 1 dX22_holds_3 rfl ?_
  refine sj_getI fdX22_13_2 hf dX22_holds_4 (fun v1 hf => ?_)
  refine sj_icge 30 hf dX22_holds_7 (by decide) (fun g7 hf => ?_) (fun g7 hf => ?_)
  · refine sj_iconst (v := 0) dX22_holds_30 (by decide) ?_
    exact sj_zretC (o := sd_oI) (ty := .boolean) rfl hf rfl rfl rfl dX22_holds_31
  · refine sj_aload_n 1 dX22_holds_10 rfl ?_
    refine sj_iload_n 2 dX22_holds_11 rfl ?_
    refine sj_aload_n 0 dX22_holds_12 rfl ?_
    refine sj_getI fdX22_7_20 hf dX22_holds_13 (fun v2 hf => ?_)
    obtain ⟨fs16, he16, hf⟩ := sd_isC_some hf
    refine sj_cI (rest := []) (fun _ _ _ e => sj_runV (n := 2) (As := [.int w2, .int v2]) (rest := []) (sX3_isSeenIn l G w1 w2 v2 h _ _ _ e) he16 rfl rfl rfl rfl q2694 q2309 q2310 q118 q2311 (by decide +kernel) rfl rfl ⟨Nat.le_of_ble_eq_true rfl, Nat.le_of_ble_eq_true rfl⟩ rfl (Nat.le_of_ble_eq_true rfl) dX22_holds_16) hf (fun r3 h c hf => ?_)
    refine sj_ifeq 24 hf dX22_holds_19 (by decide) (fun g19 hf => ?_) (fun g19 hf => ?_)
    · refine sj_iincN 2 (fun x4 => [(2, .int x4), (0, .ref w0), (1, .ref w1)]) 1 hf dX22_holds_24 rfl (by decide) (by decide) (fun _ => rfl) (fun x4 hf => ?_)
      refine sj_goto 2 dX22_holds_27 (by decide) ?_
      exact sj_loc [1, 2, 0] rfl (Hk2 (w0, w1, x4) _ _ hf)
    · refine sj_iconst (v := 1) dX22_holds_22 (by decide) ?_
      exact sj_zretC (o := sd_oI) (ty := .boolean) rfl hf rfl rfl rfl dX22_holds_23
theorem sX22_holds_b2_loop (l : Launch) (G : sd_G) (a0 : Nat) (a1 : Nat) (ρ : Int32) (h2 : sd_H) (cT : Nat × Nat) (n : Nat) : ∀ (q : Nat × Nat × Int32) (h : sd_H) (c : Nat × Nat), sd_loop (fun k s => fX22_holds_b2 G k s.1 s.2.1 s.2.2) n q h = some (ρ, c, h2) → sd_J mX22_holds ((l, G), (4, 88), [.ref a0, .ref a1], (sd_oI ρ, h2), cT) 2 [(0, .ref q.1), (1, .ref q.2.1), (2, .int q.2.2)] [] h c := by
  induction n with
  | zero => intro q h c hf; cases hf
  | succ n ih => intro q h c hf; exact sX22_holds_b2 l G a0 a1 ρ h2 cT _ ih _ _ _ _ _ hf
def fX22_holds (G : sd_G) (a0 : Nat) (a1 : Nat) : sd_M Int32 :=
  sd_loop (fun k s => fX22_holds_b2 G k s.1 s.2.1 s.2.2) sd_FU (a0, a1, 0)
set_option maxHeartbeats 4000000 in
theorem sX22_holds (l : Launch) (G : sd_G) (a0 : Nat) (a1 : Nat) (h : sd_H) (ρ : Int32) (cT : Nat × Nat) (h2 : sd_H) (hf : fX22_holds G a0 a1 h = some (ρ, cT, h2)) : sd_Met mX22_holds ((l, G), (4, 88), [.ref a0, .ref a1], (sd_oI ρ, h2), cT) h := by
  refine sd_entry (plainFor_of_name rfl) rfl (Nat.le_of_ble_eq_true rfl) ?_
  show sd_J mX22_holds ((l, G), (4, 88), [.ref a0, .ref a1], (sd_oI ρ, h2), cT) 0 [(0, .ref a0), (1, .ref a1)] [] h cT
  unfold fX22_holds at hf
  refine sj_iconst (v := 0) dX22_holds_0 (by decide) ?_
  refine sj_istore_n [(2, .int 0), (0, .ref a0), (1, .ref a1)] dX22_holds_1 (by decide) rfl ?_
  exact sj_loc [1, 2, 0] rfl (sX22_holds_b2_loop l G a0 a1 ρ h2 cT sd_FU (a0, a1, 0) _ _ hf)
/-! SofaDig$Sure.holds(LSofaDig$Sofa;)Z -/
abbrev cX23_holds : ByteArray := prog_32_method_2_code
def yX23_holds : MethodName := ⟨RX23, "holds", "(LSofaDig$Sofa;)Z"⟩
def dkwX23_holds_1 : List UInt8 := [43, 180, 0, 33, 28, 46, 4, 160, 0, 7, 4, 167, 0, 4, 3, 172]
abbrev dktX23_holds_1 : List UInt8 := dkwX23_holds_1 ++ []
def dkwX23_holds_0 : List UInt8 := [42, 180, 0, 9, 43, 182, 0, 15, 61, 28, 155, 0, 28, 28, 43, 180, 0, 21, 182, 0, 27, 162, 0, 17]
abbrev dktX23_holds_0 : List UInt8 := dkwX23_holds_0 ++ dktX23_holds_1
theorem dksX23_holds_0 : cX23_holds.data.toList.drop 0 = dktX23_holds_0 := by decide +kernel
theorem dksX23_holds_1 : cX23_holds.data.toList.drop 24 = dktX23_holds_1 := dk_seg dksX23_holds_0 24 rfl rfl
theorem dX23_holds_0 : decode cX23_holds 0 = .ok (.aload_n 0, 1) := dk_42 (dk_at dksX23_holds_0 0 rfl rfl)
theorem dX23_holds_1 : decode cX23_holds 1 = .ok (.getfield 9, 3) := dk_180 0 9 (dk_at dksX23_holds_0 1 rfl rfl)
theorem dX23_holds_4 : decode cX23_holds 4 = .ok (.aload_n 1, 1) := dk_43 (dk_at dksX23_holds_0 4 rfl rfl)
theorem dX23_holds_5 : decode cX23_holds 5 = .ok (.invokevirtual 15, 3) := dk_182 0 15 (dk_at dksX23_holds_0 5 rfl rfl)
theorem dX23_holds_8 : decode cX23_holds 8 = .ok (.istore_n 2, 1) := dk_61 (dk_at dksX23_holds_0 8 rfl rfl)
theorem dX23_holds_9 : decode cX23_holds 9 = .ok (.iload_n 2, 1) := dk_28 (dk_at dksX23_holds_0 9 rfl rfl)
theorem dX23_holds_10 : decode cX23_holds 10 = .ok (.ifCond .lt 28, 3) := dk_155 0 28 (dk_at dksX23_holds_0 10 rfl rfl)
theorem dX23_holds_13 : decode cX23_holds 13 = .ok (.iload_n 2, 1) := dk_28 (dk_at dksX23_holds_0 13 rfl rfl)
theorem dX23_holds_14 : decode cX23_holds 14 = .ok (.aload_n 1, 1) := dk_43 (dk_at dksX23_holds_0 14 rfl rfl)
theorem dX23_holds_15 : decode cX23_holds 15 = .ok (.getfield 21, 3) := dk_180 0 21 (dk_at dksX23_holds_0 15 rfl rfl)
theorem dX23_holds_18 : decode cX23_holds 18 = .ok (.invokevirtual 27, 3) := dk_182 0 27 (dk_at dksX23_holds_0 18 rfl rfl)
theorem dX23_holds_21 : decode cX23_holds 21 = .ok (.if_icmp .ge 17, 3) := dk_162 0 17 (dk_at dksX23_holds_0 21 rfl rfl)
theorem dX23_holds_24 : decode cX23_holds 24 = .ok (.aload_n 1, 1) := dk_43 (dk_at dksX23_holds_1 0 rfl rfl)
theorem dX23_holds_25 : decode cX23_holds 25 = .ok (.getfield 33, 3) := dk_180 0 33 (dk_at dksX23_holds_1 1 rfl rfl)
theorem dX23_holds_28 : decode cX23_holds 28 = .ok (.iload_n 2, 1) := dk_28 (dk_at dksX23_holds_1 4 rfl rfl)
theorem dX23_holds_29 : decode cX23_holds 29 = .ok (.iaload, 1) := dk_46 (dk_at dksX23_holds_1 5 rfl rfl)
theorem dX23_holds_30 : decode cX23_holds 30 = .ok (.iconst 1, 1) := dk_4 (dk_at dksX23_holds_1 6 rfl rfl)
theorem dX23_holds_31 : decode cX23_holds 31 = .ok (.if_icmp .ne 7, 3) := dk_160 0 7 (dk_at dksX23_holds_1 7 rfl rfl)
theorem dX23_holds_34 : decode cX23_holds 34 = .ok (.iconst 1, 1) := dk_4 (dk_at dksX23_holds_1 10 rfl rfl)
theorem dX23_holds_35 : decode cX23_holds 35 = .ok (.goto 4, 3) := dk_167 0 4 (dk_at dksX23_holds_1 11 rfl rfl)
theorem dX23_holds_38 : decode cX23_holds 38 = .ok (.iconst 0, 1) := dk_3 (dk_at dksX23_holds_1 14 rfl rfl)
theorem dX23_holds_39 : decode cX23_holds 39 = .ok (.ireturn, 1) := dk_172 (dk_at dksX23_holds_1 15 rfl rfl)
theorem fdX23_9_21 : sd_Fd "SofaDig$Sure" 9 21 0 := ⟨(RX23, TX23, 1), "SofaDig$Sure", rfl, by decide, rfl, in_X23, Or.inl rfl, Or.inl q2035⟩
theorem fdX23_21_2 : sd_Fd "SofaDig$Sure" 21 2 4 := ⟨(RX3, TX3, 12), "SofaDig$Sofa", rfl, by decide, rfl, in_X3, Or.inl rfl, Or.inr ⟨_, q256⟩⟩
theorem fdX23_33_2 : sd_Fd "SofaDig$Sure" 33 2 6 := ⟨(RX3, TX3, 12), "SofaDig$Sofa", rfl, by decide, rfl, in_X3, Or.inl rfl, Or.inr ⟨_, q262⟩⟩
abbrev mX23_holds : sd_Y := (yX23_holds, cX23_holds, 3, some (.boolean), none)
def fX23_holds (G : sd_G) (a0 : Nat) (a1 : Nat) : sd_M Int32 :=
  sd_bnd (sd_getR G 21 0 a0) fun v1 =>
  sd_bnd (sd_bnd (sd_cls G v1) fun k5 => if k5 = 12 then (pRS G 450).1 v1 a1 else if k5 = 13 then (pRS G 450).2.1 v1 a1 else if k5 = 14 then (pRS G 450).2.2.1 v1 a1 else if k5 = 15 then (pRS G 450).2.2.2.1 v1 a1 else if k5 = 16 then (pRS G 450).2.2.2.2.1 v1 a1 else sd_fail) fun r2 =>
  if r2 < 0 then (
    sd_ret 0)
  else (
    sd_bnd (sd_getR G 2 4 a1) fun v3 =>
    sd_bnd (sd_isC G 41 v3) fun _ =>
    sd_bnd (fJ2_size G v3) fun r4 =>
    if r4 ≤ r2 then (
      sd_ret 0)
    else (
      sd_bnd (sd_getR G 2 6 a1) fun v5 =>
      sd_bnd (sd_aldI G 0 v5 r2) fun v6 =>
      if v6 = 1 then (
        sd_ret 1)
      else (
        sd_ret 0)))
set_option maxHeartbeats 4000000 in
theorem sX23_holds (l : Launch) (G : sd_G) (a0 : Nat) (a1 : Nat) (h : sd_H) (ρ : Int32) (cT : Nat × Nat) (h2 : sd_H) (hf : fX23_holds G a0 a1 h = some (ρ, cT, h2)) : sd_Met mX23_holds ((l, G), (463, 13921), [.ref a0, .ref a1], (sd_oI ρ, h2), cT) h := by
  refine sd_entry (plainFor_of_name rfl) rfl (Nat.le_of_ble_eq_true rfl) ?_
  show sd_J mX23_holds ((l, G), (463, 13921), [.ref a0, .ref a1], (sd_oI ρ, h2), cT) 0 [(0, .ref a0), (1, .ref a1)] [] h cT
  unfold fX23_holds at hf
  refine sj_aload_n 0 dX23_holds_0 rfl ?_
  refine sj_getR fdX23_9_21 hf dX23_holds_1 (fun v1 hf => ?_)
  refine sj_aload_n 1 dX23_holds_4 rfl ?_
  refine sj_cI (rest := []) (fun _ _ _ e => by
    obtain ⟨ci5, fs5, he5, e⟩ := sd_cls_some e
    by_cases z5_12 : ci5 = 12
    · rw [if_pos z5_12] at e; subst z5_12; exact sj_runU (n := 1) (owner := "SofaDig$Sum") (As := [.ref a1]) (rest := []) ((spRS l G 450).1 v1 a1 h _ _ _ e) he5 rfl rfl rfl q2712 q2603 q2675 q2645 q163 q2646 (Or.inr (Or.inl q2602)) (by decide +kernel) rfl rfl (fun _ z => by cases z) ⟨Nat.le_of_ble_eq_true rfl, Nat.le_of_ble_eq_true rfl⟩ rfl (Nat.le_of_ble_eq_true rfl) dX23_holds_5
    rw [if_neg z5_12] at e
    by_cases z5_13 : ci5 = 13
    · rw [if_pos z5_13] at e; subst z5_13; exact sj_runU (n := 1) (owner := "SofaDig$Sum") (As := [.ref a1]) (rest := []) ((spRS l G 450).2.1 v1 a1 h _ _ _ e) he5 rfl rfl rfl q2712 q2603 q2604 q2605 q165 q2606 (Or.inr (Or.inl q2602)) (by decide +kernel) rfl rfl (fun _ z => by cases z) ⟨Nat.le_of_ble_eq_true rfl, Nat.le_of_ble_eq_true rfl⟩ rfl (Nat.le_of_ble_eq_true rfl) dX23_holds_5
    rw [if_neg z5_13] at e
    by_cases z5_14 : ci5 = 14
    · rw [if_pos z5_14] at e; subst z5_14; exact sj_runU (n := 1) (owner := "SofaDig$Sum") (As := [.ref a1]) (rest := []) ((spRS l G 450).2.2.1 v1 a1 h _ _ _ e) he5 rfl rfl rfl q2712 q2603 q2634 q2635 q167 q2636 (Or.inr (Or.inl q2602)) (by decide +kernel) rfl rfl (fun _ z => by cases z) ⟨Nat.le_of_ble_eq_true rfl, Nat.le_of_ble_eq_true rfl⟩ rfl (Nat.le_of_ble_eq_true rfl) dX23_holds_5
    rw [if_neg z5_14] at e
    by_cases z5_15 : ci5 = 15
    · rw [if_pos z5_15] at e; subst z5_15; exact sj_runU (n := 1) (owner := "SofaDig$Sum") (As := [.ref a1]) (rest := []) ((spRS l G 450).2.2.2.1 v1 a1 h _ _ _ e) he5 rfl rfl rfl q2712 q2603 q2676 q2647 q168 q2648 (Or.inr (Or.inl q2602)) (by decide +kernel) rfl rfl (fun _ z => by cases z) ⟨Nat.le_of_ble_eq_true rfl, Nat.le_of_ble_eq_true rfl⟩ rfl (Nat.le_of_ble_eq_true rfl) dX23_holds_5
    rw [if_neg z5_15] at e
    by_cases z5_16 : ci5 = 16
    · rw [if_pos z5_16] at e; subst z5_16; exact sj_runU (n := 1) (owner := "SofaDig$Sum") (As := [.ref a1]) (rest := []) ((spRS l G 450).2.2.2.2.1 v1 a1 h _ _ _ e) he5 rfl rfl rfl q2712 q2603 q2674 q2642 q170 q2643 (Or.inr (Or.inl q2602)) (by decide +kernel) rfl rfl (fun _ z => by cases z) ⟨Nat.le_of_ble_eq_true rfl, Nat.le_of_ble_eq_true rfl⟩ rfl (Nat.le_of_ble_eq_true rfl) dX23_holds_5
    rw [if_neg z5_16] at e
    cases e) hf (fun r2 h c hf => ?_)
  refine sj_istore_n [(2, .int r2), (0, .ref a0), (1, .ref a1)] dX23_holds_8 (by decide) rfl ?_
  refine sj_iload_n 0 dX23_holds_9 rfl ?_
  refine sj_iflt 38 hf dX23_holds_10 (by decide) (fun g10 hf => ?_) (fun g10 hf => ?_)
  · refine sj_iconst (v := 0) dX23_holds_38 (by decide) ?_
    exact sj_zretC (o := sd_oI) (ty := .boolean) rfl hf rfl rfl rfl dX23_holds_39
  · refine sj_iload_n 0 dX23_holds_13 rfl ?_
    refine sj_aload_n 2 dX23_holds_14 rfl ?_
    refine sj_getR fdX23_21_2 hf dX23_holds_15 (fun v3 hf => ?_)
    obtain ⟨fs18, he18, hf⟩ := sd_isC_some hf
    refine sj_cI (rest := [.int r2]) (fun _ _ _ e => sj_runV (n := 0) (As := []) (rest := [.int r2]) (sJ2_size l G v3 h _ _ _ e) he18 rfl rfl rfl rfl q2713 q490 q491 q121 q492 (by decide +kernel) rfl rfl ⟨Nat.le_of_ble_eq_true rfl, Nat.le_of_ble_eq_true rfl⟩ rfl (Nat.le_of_ble_eq_true rfl) dX23_holds_18) hf (fun r4 h c hf => ?_)
    refine sj_icge 38 hf dX23_holds_21 (by decide) (fun g21 hf => ?_) (fun g21 hf => ?_)
    · refine sj_iconst (v := 0) dX23_holds_38 (by decide) ?_
      exact sj_zretC (o := sd_oI) (ty := .boolean) rfl hf rfl rfl rfl dX23_holds_39
    · refine sj_aload_n 2 dX23_holds_24 rfl ?_
      refine sj_getR fdX23_33_2 hf dX23_holds_25 (fun v5 hf => ?_)
      refine sj_iload_n 0 dX23_holds_28 rfl ?_
      refine sj_iald hf dX23_holds_29 (fun v6 hf => ?_)
      refine sj_iconst (v := 1) dX23_holds_30 (by decide) ?_
      refine sj_icne 38 hf dX23_holds_31 (by decide) (fun g31 hf => ?_) (fun g31 hf => ?_)
      · refine sj_iconst (v := 0) dX23_holds_38 (by decide) ?_
        exact sj_zretC (o := sd_oI) (ty := .boolean) rfl hf rfl rfl rfl dX23_holds_39
      · refine sj_iconst (v := 1) dX23_holds_34 (by decide) ?_
        refine sj_goto 39 dX23_holds_35 (by decide) ?_
        exact sj_zretC (o := sd_oI) (ty := .boolean) rfl hf rfl rfl rfl dX23_holds_39
/-! SofaDig$Compared.holds(LSofaDig$Sofa;)Z -/
abbrev cX24_holds : ByteArray := prog_3_method_2_code
def yX24_holds : MethodName := ⟨RX24, "holds", "(LSofaDig$Sofa;)Z"⟩
def dkwX24_holds_4 : List UInt8 := [167, 0, 4, 3, 172]
abbrev dktX24_holds_4 : List UInt8 := dkwX24_holds_4 ++ []
def dkwX24_holds_3 : List UInt8 := [42, 180, 0, 7, 42, 180, 0, 7, 182, 0, 38, 4, 100, 182, 0, 32, 16, 61, 160, 0, 7, 4]
abbrev dktX24_holds_3 : List UInt8 := dkwX24_holds_3 ++ dktX24_holds_4
def dkwX24_holds_2 : List UInt8 := [158, 0, 24, 42, 180, 0, 7, 3, 182, 0, 32, 16, 62, 160, 0, 7, 4, 167, 0, 33, 3, 167, 0, 29]
abbrev dktX24_holds_2 : List UInt8 := dkwX24_holds_2 ++ dktX24_holds_3
def dkwX24_holds_1 : List UInt8 := [42, 180, 0, 7, 3, 182, 0, 32, 16, 60, 160, 0, 7, 4, 167, 0, 58, 3, 167, 0, 54, 28]
abbrev dktX24_holds_1 : List UInt8 := dkwX24_holds_1 ++ dktX24_holds_2
def dkwX24_holds_0 : List UInt8 := [42, 180, 0, 13, 43, 182, 0, 20, 42, 180, 0, 17, 43, 182, 0, 20, 184, 0, 26, 61, 28, 156, 0, 24]
abbrev dktX24_holds_0 : List UInt8 := dkwX24_holds_0 ++ dktX24_holds_1
theorem dksX24_holds_0 : cX24_holds.data.toList.drop 0 = dktX24_holds_0 := by decide +kernel
theorem dksX24_holds_1 : cX24_holds.data.toList.drop 24 = dktX24_holds_1 := dk_seg dksX24_holds_0 24 rfl rfl
theorem dksX24_holds_2 : cX24_holds.data.toList.drop 46 = dktX24_holds_2 := dk_seg dksX24_holds_1 22 rfl rfl
theorem dksX24_holds_3 : cX24_holds.data.toList.drop 70 = dktX24_holds_3 := dk_seg dksX24_holds_2 24 rfl rfl
theorem dksX24_holds_4 : cX24_holds.data.toList.drop 92 = dktX24_holds_4 := dk_seg dksX24_holds_3 22 rfl rfl
theorem dX24_holds_0 : decode cX24_holds 0 = .ok (.aload_n 0, 1) := dk_42 (dk_at dksX24_holds_0 0 rfl rfl)
theorem dX24_holds_1 : decode cX24_holds 1 = .ok (.getfield 13, 3) := dk_180 0 13 (dk_at dksX24_holds_0 1 rfl rfl)
theorem dX24_holds_4 : decode cX24_holds 4 = .ok (.aload_n 1, 1) := dk_43 (dk_at dksX24_holds_0 4 rfl rfl)
theorem dX24_holds_5 : decode cX24_holds 5 = .ok (.invokevirtual 20, 3) := dk_182 0 20 (dk_at dksX24_holds_0 5 rfl rfl)
theorem dX24_holds_8 : decode cX24_holds 8 = .ok (.aload_n 0, 1) := dk_42 (dk_at dksX24_holds_0 8 rfl rfl)
theorem dX24_holds_9 : decode cX24_holds 9 = .ok (.getfield 17, 3) := dk_180 0 17 (dk_at dksX24_holds_0 9 rfl rfl)
theorem dX24_holds_12 : decode cX24_holds 12 = .ok (.aload_n 1, 1) := dk_43 (dk_at dksX24_holds_0 12 rfl rfl)
theorem dX24_holds_13 : decode cX24_holds 13 = .ok (.invokevirtual 20, 3) := dk_182 0 20 (dk_at dksX24_holds_0 13 rfl rfl)
theorem dX24_holds_16 : decode cX24_holds 16 = .ok (.invokestatic 26, 3) := dk_184 0 26 (dk_at dksX24_holds_0 16 rfl rfl)
theorem dX24_holds_19 : decode cX24_holds 19 = .ok (.istore_n 2, 1) := dk_61 (dk_at dksX24_holds_0 19 rfl rfl)
theorem dX24_holds_20 : decode cX24_holds 20 = .ok (.iload_n 2, 1) := dk_28 (dk_at dksX24_holds_0 20 rfl rfl)
theorem dX24_holds_21 : decode cX24_holds 21 = .ok (.ifCond .ge 24, 3) := dk_156 0 24 (dk_at dksX24_holds_0 21 rfl rfl)
theorem dX24_holds_24 : decode cX24_holds 24 = .ok (.aload_n 0, 1) := dk_42 (dk_at dksX24_holds_1 0 rfl rfl)
theorem dX24_holds_25 : decode cX24_holds 25 = .ok (.getfield 7, 3) := dk_180 0 7 (dk_at dksX24_holds_1 1 rfl rfl)
theorem dX24_holds_28 : decode cX24_holds 28 = .ok (.iconst 0, 1) := dk_3 (dk_at dksX24_holds_1 4 rfl rfl)
theorem dX24_holds_29 : decode cX24_holds 29 = .ok (.invokevirtual 32, 3) := dk_182 0 32 (dk_at dksX24_holds_1 5 rfl rfl)
theorem dX24_holds_32 : decode cX24_holds 32 = .ok (.bipush 60, 2) := dk_16 60 (dk_at dksX24_holds_1 8 rfl rfl)
theorem dX24_holds_34 : decode cX24_holds 34 = .ok (.if_icmp .ne 7, 3) := dk_160 0 7 (dk_at dksX24_holds_1 10 rfl rfl)
theorem dX24_holds_37 : decode cX24_holds 37 = .ok (.iconst 1, 1) := dk_4 (dk_at dksX24_holds_1 13 rfl rfl)
theorem dX24_holds_38 : decode cX24_holds 38 = .ok (.goto 58, 3) := dk_167 0 58 (dk_at dksX24_holds_1 14 rfl rfl)
theorem dX24_holds_41 : decode cX24_holds 41 = .ok (.iconst 0, 1) := dk_3 (dk_at dksX24_holds_1 17 rfl rfl)
theorem dX24_holds_42 : decode cX24_holds 42 = .ok (.goto 54, 3) := dk_167 0 54 (dk_at dksX24_holds_1 18 rfl rfl)
theorem dX24_holds_45 : decode cX24_holds 45 = .ok (.iload_n 2, 1) := dk_28 (dk_at dksX24_holds_1 21 rfl rfl)
theorem dX24_holds_46 : decode cX24_holds 46 = .ok (.ifCond .le 24, 3) := dk_158 0 24 (dk_at dksX24_holds_2 0 rfl rfl)
theorem dX24_holds_49 : decode cX24_holds 49 = .ok (.aload_n 0, 1) := dk_42 (dk_at dksX24_holds_2 3 rfl rfl)
theorem dX24_holds_50 : decode cX24_holds 50 = .ok (.getfield 7, 3) := dk_180 0 7 (dk_at dksX24_holds_2 4 rfl rfl)
theorem dX24_holds_53 : decode cX24_holds 53 = .ok (.iconst 0, 1) := dk_3 (dk_at dksX24_holds_2 7 rfl rfl)
theorem dX24_holds_54 : decode cX24_holds 54 = .ok (.invokevirtual 32, 3) := dk_182 0 32 (dk_at dksX24_holds_2 8 rfl rfl)
theorem dX24_holds_57 : decode cX24_holds 57 = .ok (.bipush 62, 2) := dk_16 62 (dk_at dksX24_holds_2 11 rfl rfl)
theorem dX24_holds_59 : decode cX24_holds 59 = .ok (.if_icmp .ne 7, 3) := dk_160 0 7 (dk_at dksX24_holds_2 13 rfl rfl)
theorem dX24_holds_62 : decode cX24_holds 62 = .ok (.iconst 1, 1) := dk_4 (dk_at dksX24_holds_2 16 rfl rfl)
theorem dX24_holds_63 : decode cX24_holds 63 = .ok (.goto 33, 3) := dk_167 0 33 (dk_at dksX24_holds_2 17 rfl rfl)
theorem dX24_holds_66 : decode cX24_holds 66 = .ok (.iconst 0, 1) := dk_3 (dk_at dksX24_holds_2 20 rfl rfl)
theorem dX24_holds_67 : decode cX24_holds 67 = .ok (.goto 29, 3) := dk_167 0 29 (dk_at dksX24_holds_2 21 rfl rfl)
theorem dX24_holds_70 : decode cX24_holds 70 = .ok (.aload_n 0, 1) := dk_42 (dk_at dksX24_holds_3 0 rfl rfl)
theorem dX24_holds_71 : decode cX24_holds 71 = .ok (.getfield 7, 3) := dk_180 0 7 (dk_at dksX24_holds_3 1 rfl rfl)
theorem dX24_holds_74 : decode cX24_holds 74 = .ok (.aload_n 0, 1) := dk_42 (dk_at dksX24_holds_3 4 rfl rfl)
theorem dX24_holds_75 : decode cX24_holds 75 = .ok (.getfield 7, 3) := dk_180 0 7 (dk_at dksX24_holds_3 5 rfl rfl)
theorem dX24_holds_78 : decode cX24_holds 78 = .ok (.invokevirtual 38, 3) := dk_182 0 38 (dk_at dksX24_holds_3 8 rfl rfl)
theorem dX24_holds_81 : decode cX24_holds 81 = .ok (.iconst 1, 1) := dk_4 (dk_at dksX24_holds_3 11 rfl rfl)
theorem dX24_holds_82 : decode cX24_holds 82 = .ok (.isub, 1) := dk_100 (dk_at dksX24_holds_3 12 rfl rfl)
theorem dX24_holds_83 : decode cX24_holds 83 = .ok (.invokevirtual 32, 3) := dk_182 0 32 (dk_at dksX24_holds_3 13 rfl rfl)
theorem dX24_holds_86 : decode cX24_holds 86 = .ok (.bipush 61, 2) := dk_16 61 (dk_at dksX24_holds_3 16 rfl rfl)
theorem dX24_holds_88 : decode cX24_holds 88 = .ok (.if_icmp .ne 7, 3) := dk_160 0 7 (dk_at dksX24_holds_3 18 rfl rfl)
theorem dX24_holds_91 : decode cX24_holds 91 = .ok (.iconst 1, 1) := dk_4 (dk_at dksX24_holds_3 21 rfl rfl)
theorem dX24_holds_92 : decode cX24_holds 92 = .ok (.goto 4, 3) := dk_167 0 4 (dk_at dksX24_holds_4 0 rfl rfl)
theorem dX24_holds_95 : decode cX24_holds 95 = .ok (.iconst 0, 1) := dk_3 (dk_at dksX24_holds_4 3 rfl rfl)
theorem dX24_holds_96 : decode cX24_holds 96 = .ok (.ireturn, 1) := dk_172 (dk_at dksX24_holds_4 4 rfl rfl)
theorem fdX24_13_22 : sd_Fd "SofaDig$Compared" 13 22 1 := ⟨(RX24, TX24, 3), "SofaDig$Compared", rfl, by decide, rfl, in_X24, Or.inl rfl, Or.inl q2050⟩
theorem fdX24_17_22 : sd_Fd "SofaDig$Compared" 17 22 2 := ⟨(RX24, TX24, 3), "SofaDig$Compared", rfl, by decide, rfl, in_X24, Or.inl rfl, Or.inl q2051⟩
theorem fdX24_7_22 : sd_Fd "SofaDig$Compared" 7 22 0 := ⟨(RX24, TX24, 3), "SofaDig$Compared", rfl, by decide, rfl, in_X24, Or.inl rfl, Or.inl q2049⟩
abbrev mX24_holds : sd_Y := (yX24_holds, cX24_holds, 3, some (.boolean), none)
def fX24_holds (G : sd_G) (a0 : Nat) (a1 : Nat) : sd_M Int32 :=
  sd_bnd (sd_getR G 22 1 a0) fun v1 =>
  sd_bnd (sd_bnd (sd_cls G v1) fun k5 => if k5 = 12 then (pRS G 450).1 v1 a1 else if k5 = 13 then (pRS G 450).2.1 v1 a1 else if k5 = 14 then (pRS G 450).2.2.1 v1 a1 else if k5 = 15 then (pRS G 450).2.2.2.1 v1 a1 else if k5 = 16 then (pRS G 450).2.2.2.2.1 v1 a1 else sd_fail) fun r2 =>
  sd_bnd (sd_getR G 22 2 a0) fun v3 =>
  sd_bnd (sd_bnd (sd_cls G v3) fun k13 => if k13 = 12 then (pRS G 450).1 v3 a1 else if k13 = 13 then (pRS G 450).2.1 v3 a1 else if k13 = 14 then (pRS G 450).2.2.1 v3 a1 else if k13 = 15 then (pRS G 450).2.2.2.1 v3 a1 else if k13 = 16 then (pRS G 450).2.2.2.2.1 v3 a1 else sd_fail) fun r4 =>
  sd_bnd (fJ19_compare G r2 r4) fun r5 =>
  if 0 ≤ r5 then (
    if r5 ≤ 0 then (
      sd_bnd (sd_getR G 22 0 a0) fun v6 =>
      sd_bnd (sd_getR G 22 0 a0) fun v7 =>
      sd_bnd (sd_isC G 45 v7) fun _ =>
      sd_bnd (fJ14_length G v7) fun r8 =>
      sd_bnd (sd_isC G 45 v6) fun _ =>
      sd_bnd (fJ14_charAt G v6 (r8 - 1)) fun r9 =>
      if r9 = 61 then (
        sd_ret 1)
      else (
        sd_ret 0))
    else (
      sd_bnd (sd_getR G 22 0 a0) fun v10 =>
      sd_bnd (sd_isC G 45 v10) fun _ =>
      sd_bnd (fJ14_charAt G v10 0) fun r11 =>
      if r11 = 62 then (
        sd_ret 1)
      else (
        sd_ret 0)))
  else (
    sd_bnd (sd_getR G 22 0 a0) fun v12 =>
    sd_bnd (sd_isC G 45 v12) fun _ =>
    sd_bnd (fJ14_charAt G v12 0) fun r13 =>
    if r13 = 60 then (
      sd_ret 1)
    else (
      sd_ret 0))
set_option maxHeartbeats 4000000 in
theorem sX24_holds (l : Launch) (G : sd_G) (a0 : Nat) (a1 : Nat) (h : sd_H) (ρ : Int32) (cT : Nat × Nat) (h2 : sd_H) (hf : fX24_holds G a0 a1 h = some (ρ, cT, h2)) : sd_Met mX24_holds ((l, G), (463, 13921), [.ref a0, .ref a1], (sd_oI ρ, h2), cT) h := by
  refine sd_entry (plainFor_of_name rfl) rfl (Nat.le_of_ble_eq_true rfl) ?_
  show sd_J mX24_holds ((l, G), (463, 13921), [.ref a0, .ref a1], (sd_oI ρ, h2), cT) 0 [(0, .ref a0), (1, .ref a1)] [] h cT
  unfold fX24_holds at hf
  refine sj_aload_n 0 dX24_holds_0 rfl ?_
  refine sj_getR fdX24_13_22 hf dX24_holds_1 (fun v1 hf => ?_)
  refine sj_aload_n 1 dX24_holds_4 rfl ?_
  refine sj_cI (rest := []) (fun _ _ _ e => by
    obtain ⟨ci5, fs5, he5, e⟩ := sd_cls_some e
    by_cases z5_12 : ci5 = 12
    · rw [if_pos z5_12] at e; subst z5_12; exact sj_runU (n := 1) (owner := "SofaDig$Sum") (As := [.ref a1]) (rest := []) ((spRS l G 450).1 v1 a1 h _ _ _ e) he5 rfl rfl rfl q2601 q2603 q2675 q2645 q163 q2646 (Or.inr (Or.inl q2602)) (by decide +kernel) rfl rfl (fun _ z => by cases z) ⟨Nat.le_of_ble_eq_true rfl, Nat.le_of_ble_eq_true rfl⟩ rfl (Nat.le_of_ble_eq_true rfl) dX24_holds_5
    rw [if_neg z5_12] at e
    by_cases z5_13 : ci5 = 13
    · rw [if_pos z5_13] at e; subst z5_13; exact sj_runU (n := 1) (owner := "SofaDig$Sum") (As := [.ref a1]) (rest := []) ((spRS l G 450).2.1 v1 a1 h _ _ _ e) he5 rfl rfl rfl q2601 q2603 q2604 q2605 q165 q2606 (Or.inr (Or.inl q2602)) (by decide +kernel) rfl rfl (fun _ z => by cases z) ⟨Nat.le_of_ble_eq_true rfl, Nat.le_of_ble_eq_true rfl⟩ rfl (Nat.le_of_ble_eq_true rfl) dX24_holds_5
    rw [if_neg z5_13] at e
    by_cases z5_14 : ci5 = 14
    · rw [if_pos z5_14] at e; subst z5_14; exact sj_runU (n := 1) (owner := "SofaDig$Sum") (As := [.ref a1]) (rest := []) ((spRS l G 450).2.2.1 v1 a1 h _ _ _ e) he5 rfl rfl rfl q2601 q2603 q2634 q2635 q167 q2636 (Or.inr (Or.inl q2602)) (by decide +kernel) rfl rfl (fun _ z => by cases z) ⟨Nat.le_of_ble_eq_true rfl, Nat.le_of_ble_eq_true rfl⟩ rfl (Nat.le_of_ble_eq_true rfl) dX24_holds_5
    rw [if_neg z5_14] at e
    by_cases z5_15 : ci5 = 15
    · rw [if_pos z5_15] at e; subst z5_15; exact sj_runU (n := 1) (owner := "SofaDig$Sum") (As := [.ref a1]) (rest := []) ((spRS l G 450).2.2.2.1 v1 a1 h _ _ _ e) he5 rfl rfl rfl q2601 q2603 q2676 q2647 q168 q2648 (Or.inr (Or.inl q2602)) (by decide +kernel) rfl rfl (fun _ z => by cases z) ⟨Nat.le_of_ble_eq_true rfl, Nat.le_of_ble_eq_true rfl⟩ rfl (Nat.le_of_ble_eq_true rfl) dX24_holds_5
    rw [if_neg z5_15] at e
    by_cases z5_16 : ci5 = 16
    · rw [if_pos z5_16] at e; subst z5_16; exact sj_runU (n := 1) (owner := "SofaDig$Sum") (As := [.ref a1]) (rest := []) ((spRS l G 450).2.2.2.2.1 v1 a1 h _ _ _ e) he5 rfl rfl rfl q2601 q2603 q2674 q2642 q170 q2643 (Or.inr (Or.inl q2602)) (by decide +kernel) rfl rfl (fun _ z => by cases z) ⟨Nat.le_of_ble_eq_true rfl, Nat.le_of_ble_eq_true rfl⟩ rfl (Nat.le_of_ble_eq_true rfl) dX24_holds_5
    rw [if_neg z5_16] at e
    cases e) hf (fun r2 h c hf => ?_)
  refine sj_aload_n 0 dX24_holds_8 rfl ?_
  refine sj_getR fdX24_17_22 hf dX24_holds_9 (fun v3 hf => ?_)
  refine sj_aload_n 1 dX24_holds_12 rfl ?_
  refine sj_cI (rest := [.int r2]) (fun _ _ _ e => by
    obtain ⟨ci13, fs13, he13, e⟩ := sd_cls_some e
    by_cases z13_12 : ci13 = 12
    · rw [if_pos z13_12] at e; subst z13_12; exact sj_runU (n := 1) (owner := "SofaDig$Sum") (As := [.ref a1]) (rest := [.int r2]) ((spRS l G 450).1 v3 a1 h _ _ _ e) he13 rfl rfl rfl q2601 q2603 q2675 q2645 q163 q2646 (Or.inr (Or.inl q2602)) (by decide +kernel) rfl rfl (fun _ z => by cases z) ⟨Nat.le_of_ble_eq_true rfl, Nat.le_of_ble_eq_true rfl⟩ rfl (Nat.le_of_ble_eq_true rfl) dX24_holds_13
    rw [if_neg z13_12] at e
    by_cases z13_13 : ci13 = 13
    · rw [if_pos z13_13] at e; subst z13_13; exact sj_runU (n := 1) (owner := "SofaDig$Sum") (As := [.ref a1]) (rest := [.int r2]) ((spRS l G 450).2.1 v3 a1 h _ _ _ e) he13 rfl rfl rfl q2601 q2603 q2604 q2605 q165 q2606 (Or.inr (Or.inl q2602)) (by decide +kernel) rfl rfl (fun _ z => by cases z) ⟨Nat.le_of_ble_eq_true rfl, Nat.le_of_ble_eq_true rfl⟩ rfl (Nat.le_of_ble_eq_true rfl) dX24_holds_13
    rw [if_neg z13_13] at e
    by_cases z13_14 : ci13 = 14
    · rw [if_pos z13_14] at e; subst z13_14; exact sj_runU (n := 1) (owner := "SofaDig$Sum") (As := [.ref a1]) (rest := [.int r2]) ((spRS l G 450).2.2.1 v3 a1 h _ _ _ e) he13 rfl rfl rfl q2601 q2603 q2634 q2635 q167 q2636 (Or.inr (Or.inl q2602)) (by decide +kernel) rfl rfl (fun _ z => by cases z) ⟨Nat.le_of_ble_eq_true rfl, Nat.le_of_ble_eq_true rfl⟩ rfl (Nat.le_of_ble_eq_true rfl) dX24_holds_13
    rw [if_neg z13_14] at e
    by_cases z13_15 : ci13 = 15
    · rw [if_pos z13_15] at e; subst z13_15; exact sj_runU (n := 1) (owner := "SofaDig$Sum") (As := [.ref a1]) (rest := [.int r2]) ((spRS l G 450).2.2.2.1 v3 a1 h _ _ _ e) he13 rfl rfl rfl q2601 q2603 q2676 q2647 q168 q2648 (Or.inr (Or.inl q2602)) (by decide +kernel) rfl rfl (fun _ z => by cases z) ⟨Nat.le_of_ble_eq_true rfl, Nat.le_of_ble_eq_true rfl⟩ rfl (Nat.le_of_ble_eq_true rfl) dX24_holds_13
    rw [if_neg z13_15] at e
    by_cases z13_16 : ci13 = 16
    · rw [if_pos z13_16] at e; subst z13_16; exact sj_runU (n := 1) (owner := "SofaDig$Sum") (As := [.ref a1]) (rest := [.int r2]) ((spRS l G 450).2.2.2.2.1 v3 a1 h _ _ _ e) he13 rfl rfl rfl q2601 q2603 q2674 q2642 q170 q2643 (Or.inr (Or.inl q2602)) (by decide +kernel) rfl rfl (fun _ z => by cases z) ⟨Nat.le_of_ble_eq_true rfl, Nat.le_of_ble_eq_true rfl⟩ rfl (Nat.le_of_ble_eq_true rfl) dX24_holds_13
    rw [if_neg z13_16] at e
    cases e) hf (fun r4 h c hf => ?_)
  refine sj_cI (rest := []) (fun _ _ _ e => sj_runS (n := 2) (rest := []) (sJ19_compare l G r2 r4 h _ _ _ e) rfl rfl q2677 q1437 q146 q1438 (by decide +kernel) rfl ⟨Nat.le_of_ble_eq_true rfl, Nat.le_of_ble_eq_true rfl⟩ rfl (Nat.le_of_ble_eq_true rfl) dX24_holds_16) hf (fun r5 h c hf => ?_)
  refine sj_istore_n [(2, .int r5), (0, .ref a0), (1, .ref a1)] dX24_holds_19 (by decide) rfl ?_
  refine sj_iload_n 0 dX24_holds_20 rfl ?_
  refine sj_ifge 45 hf dX24_holds_21 (by decide) (fun g21 hf => ?_) (fun g21 hf => ?_)
  · refine sj_iload_n 0 dX24_holds_45 rfl ?_
    refine sj_ifle 70 hf dX24_holds_46 (by decide) (fun g46 hf => ?_) (fun g46 hf => ?_)
    · refine sj_aload_n 1 dX24_holds_70 rfl ?_
      refine sj_getR fdX24_7_22 hf dX24_holds_71 (fun v6 hf => ?_)
      refine sj_aload_n 1 dX24_holds_74 rfl ?_
      refine sj_getR fdX24_7_22 hf dX24_holds_75 (fun v7 hf => ?_)
      obtain ⟨fs78, he78, hf⟩ := sd_isC_some hf
      refine sj_cI (rest := [.ref v6]) (fun _ _ _ e => sj_runV (n := 0) (As := []) (rest := [.ref v6]) (sJ14_length l G v7 h _ _ _ e) he78 rfl rfl rfl rfl q2679 q770 q771 q141 q772 (by decide +kernel) rfl rfl ⟨Nat.le_of_ble_eq_true rfl, Nat.le_of_ble_eq_true rfl⟩ rfl (Nat.le_of_ble_eq_true rfl) dX24_holds_78) hf (fun r8 h c hf => ?_)
      refine sj_iconst (v := 1) dX24_holds_81 (by decide) ?_
      refine sj_isub dX24_holds_82 ?_
      obtain ⟨fs83, he83, hf⟩ := sd_isC_some hf
      refine sj_cI (rest := []) (fun _ _ _ e => sj_runV (n := 1) (As := [.int (r8 - 1)]) (rest := []) (sJ14_charAt l G v6 (r8 - 1) h _ _ _ e) he83 rfl rfl rfl rfl q2678 q1066 q1067 q141 q1068 (by decide +kernel) rfl rfl ⟨Nat.le_of_ble_eq_true rfl, Nat.le_of_ble_eq_true rfl⟩ rfl (Nat.le_of_ble_eq_true rfl) dX24_holds_83) hf (fun r9 h c hf => ?_)
      refine sj_bipush (v := 61) dX24_holds_86 (by decide) ?_
      refine sj_icne 95 hf dX24_holds_88 (by decide) (fun g88 hf => ?_) (fun g88 hf => ?_)
      · refine sj_iconst (v := 0) dX24_holds_95 (by decide) ?_
        exact sj_zretC (o := sd_oI) (ty := .boolean) rfl hf rfl rfl rfl dX24_holds_96
      · refine sj_iconst (v := 1) dX24_holds_91 (by decide) ?_
        refine sj_goto 96 dX24_holds_92 (by decide) ?_
        exact sj_zretC (o := sd_oI) (ty := .boolean) rfl hf rfl rfl rfl dX24_holds_96
    · refine sj_aload_n 1 dX24_holds_49 rfl ?_
      refine sj_getR fdX24_7_22 hf dX24_holds_50 (fun v10 hf => ?_)
      refine sj_iconst (v := 0) dX24_holds_53 (by decide) ?_
      obtain ⟨fs54, he54, hf⟩ := sd_isC_some hf
      refine sj_cI (rest := []) (fun _ _ _ e => sj_runV (n := 1) (As := [.int 0]) (rest := []) (sJ14_charAt l G v10 0 h _ _ _ e) he54 rfl rfl rfl rfl q2678 q1066 q1067 q141 q1068 (by decide +kernel) rfl rfl ⟨Nat.le_of_ble_eq_true rfl, Nat.le_of_ble_eq_true rfl⟩ rfl (Nat.le_of_ble_eq_true rfl) dX24_holds_54) hf (fun r11 h c hf => ?_)
      refine sj_bipush (v := 62) dX24_holds_57 (by decide) ?_
      refine sj_icne 66 hf dX24_holds_59 (by decide) (fun g59 hf => ?_) (fun g59 hf => ?_)
      · refine sj_iconst (v := 0) dX24_holds_66 (by decide) ?_
        refine sj_goto 96 dX24_holds_67 (by decide) ?_
        exact sj_zretC (o := sd_oI) (ty := .boolean) rfl hf rfl rfl rfl dX24_holds_96
      · refine sj_iconst (v := 1) dX24_holds_62 (by decide) ?_
        refine sj_goto 96 dX24_holds_63 (by decide) ?_
        exact sj_zretC (o := sd_oI) (ty := .boolean) rfl hf rfl rfl rfl dX24_holds_96
  · refine sj_aload_n 1 dX24_holds_24 rfl ?_
    refine sj_getR fdX24_7_22 hf dX24_holds_25 (fun v12 hf => ?_)
    refine sj_iconst (v := 0) dX24_holds_28 (by decide) ?_
    obtain ⟨fs29, he29, hf⟩ := sd_isC_some hf
    refine sj_cI (rest := []) (fun _ _ _ e => sj_runV (n := 1) (As := [.int 0]) (rest := []) (sJ14_charAt l G v12 0 h _ _ _ e) he29 rfl rfl rfl rfl q2678 q1066 q1067 q141 q1068 (by decide +kernel) rfl rfl ⟨Nat.le_of_ble_eq_true rfl, Nat.le_of_ble_eq_true rfl⟩ rfl (Nat.le_of_ble_eq_true rfl) dX24_holds_29) hf (fun r13 h c hf => ?_)
    refine sj_bipush (v := 60) dX24_holds_32 (by decide) ?_
    refine sj_icne 41 hf dX24_holds_34 (by decide) (fun g34 hf => ?_) (fun g34 hf => ?_)
    · refine sj_iconst (v := 0) dX24_holds_41 (by decide) ?_
      refine sj_goto 96 dX24_holds_42 (by decide) ?_
      exact sj_zretC (o := sd_oI) (ty := .boolean) rfl hf rfl rfl rfl dX24_holds_96
    · refine sj_iconst (v := 1) dX24_holds_37 (by decide) ?_
      refine sj_goto 96 dX24_holds_38 (by decide) ?_
      exact sj_zretC (o := sd_oI) (ty := .boolean) rfl hf rfl rfl rfl dX24_holds_96
/-! SofaDig$Test$1.holds(LSofaDig$Sofa;)Z -/
abbrev cX26_holds : ByteArray := prog_35_method_2_code
def yX26_holds : MethodName := ⟨RX26, "holds", "(LSofaDig$Sofa;)Z"⟩
theorem dX26_holds_0 : decode cX26_holds 0 = .ok (.iconst 1, 1) := by decide +kernel
theorem dX26_holds_1 : decode cX26_holds 1 = .ok (.ireturn, 1) := by decide +kernel
abbrev mX26_holds : sd_Y := (yX26_holds, cX26_holds, 2, some (.boolean), none)
def fX26_holds (G : sd_G) (a0 : Nat) (a1 : Nat) : sd_M Int32 :=
  sd_ret 1
set_option maxHeartbeats 4000000 in
theorem sX26_holds (l : Launch) (G : sd_G) (a0 : Nat) (a1 : Nat) (h : sd_H) (ρ : Int32) (cT : Nat × Nat) (h2 : sd_H) (hf : fX26_holds G a0 a1 h = some (ρ, cT, h2)) : sd_Met mX26_holds ((l, G), (0, 0), [.ref a0, .ref a1], (sd_oI ρ, h2), cT) h := by
  refine sd_entry (plainFor_of_name rfl) rfl (Nat.le_of_ble_eq_true rfl) ?_
  show sd_J mX26_holds ((l, G), (0, 0), [.ref a0, .ref a1], (sd_oI ρ, h2), cT) 0 [(0, .ref a0), (1, .ref a1)] [] h cT
  unfold fX26_holds at hf
  refine sj_iconst (v := 1) dX26_holds_0 (by decide) ?_
  exact sj_zretC (o := sd_oI) (ty := .boolean) rfl hf rfl rfl rfl dX26_holds_1
