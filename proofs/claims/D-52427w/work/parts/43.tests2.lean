set_option maxRecDepth 100000
abbrev cX20_holds : ByteArray := prog_21_method_2_code
def yX20_holds : MethodName := ⟨RX20, "holds", "(LSofaDig$Sofa;)Z"⟩
def dkwX20_holds_2 : List UInt8 := [3, 172, 132, 2, 1, 167, 255, 205, 42, 180, 0, 16, 172]
abbrev dktX20_holds_2 : List UInt8 := dkwX20_holds_2 ++ []
def dkwX20_holds_1 : List UInt8 := [43, 185, 0, 30, 2, 0, 42, 180, 0, 16, 159, 0, 16, 42, 180, 0, 16, 154, 0, 7, 4, 167, 0, 4]
abbrev dktX20_holds_1 : List UInt8 := dkwX20_holds_1 ++ dktX20_holds_2
def dkwX20_holds_0 : List UInt8 := [3, 61, 28, 42, 180, 0, 10, 182, 0, 20, 162, 0, 46, 42, 180, 0, 10, 28, 182, 0, 24, 192, 0, 28]
abbrev dktX20_holds_0 : List UInt8 := dkwX20_holds_0 ++ dktX20_holds_1
theorem dksX20_holds_0 : cX20_holds.data.toList.drop 0 = dktX20_holds_0 := by decide +kernel
theorem dksX20_holds_1 : cX20_holds.data.toList.drop 24 = dktX20_holds_1 := dk_seg dksX20_holds_0 24 rfl rfl
theorem dksX20_holds_2 : cX20_holds.data.toList.drop 48 = dktX20_holds_2 := dk_seg dksX20_holds_1 24 rfl rfl
theorem dX20_holds_0 : decode cX20_holds 0 = .ok (.iconst 0, 1) := dk_3 (dk_at dksX20_holds_0 0 rfl rfl)
theorem dX20_holds_1 : decode cX20_holds 1 = .ok (.istore_n 2, 1) := dk_61 (dk_at dksX20_holds_0 1 rfl rfl)
theorem dX20_holds_2 : decode cX20_holds 2 = .ok (.iload_n 2, 1) := dk_28 (dk_at dksX20_holds_0 2 rfl rfl)
theorem dX20_holds_3 : decode cX20_holds 3 = .ok (.aload_n 0, 1) := dk_42 (dk_at dksX20_holds_0 3 rfl rfl)
theorem dX20_holds_4 : decode cX20_holds 4 = .ok (.getfield 10, 3) := dk_180 0 10 (dk_at dksX20_holds_0 4 rfl rfl)
theorem dX20_holds_7 : decode cX20_holds 7 = .ok (.invokevirtual 20, 3) := dk_182 0 20 (dk_at dksX20_holds_0 7 rfl rfl)
theorem dX20_holds_10 : decode cX20_holds 10 = .ok (.if_icmp .ge 46, 3) := dk_162 0 46 (dk_at dksX20_holds_0 10 rfl rfl)
theorem dX20_holds_13 : decode cX20_holds 13 = .ok (.aload_n 0, 1) := dk_42 (dk_at dksX20_holds_0 13 rfl rfl)
theorem dX20_holds_14 : decode cX20_holds 14 = .ok (.getfield 10, 3) := dk_180 0 10 (dk_at dksX20_holds_0 14 rfl rfl)
theorem dX20_holds_17 : decode cX20_holds 17 = .ok (.iload_n 2, 1) := dk_28 (dk_at dksX20_holds_0 17 rfl rfl)
theorem dX20_holds_18 : decode cX20_holds 18 = .ok (.invokevirtual 24, 3) := dk_182 0 24 (dk_at dksX20_holds_0 18 rfl rfl)
theorem dX20_holds_21 : decode cX20_holds 21 = .ok (.checkcast 28, 3) := dk_192 0 28 (dk_at dksX20_holds_0 21 rfl rfl)
theorem dX20_holds_24 : decode cX20_holds 24 = .ok (.aload_n 1, 1) := dk_43 (dk_at dksX20_holds_1 0 rfl rfl)
theorem dX20_holds_25 : decode cX20_holds 25 = .ok (.invokeinterface 30 2, 5) := by decide +kernel
theorem dX20_holds_30 : decode cX20_holds 30 = .ok (.aload_n 0, 1) := dk_42 (dk_at dksX20_holds_1 6 rfl rfl)
theorem dX20_holds_31 : decode cX20_holds 31 = .ok (.getfield 16, 3) := dk_180 0 16 (dk_at dksX20_holds_1 7 rfl rfl)
theorem dX20_holds_34 : decode cX20_holds 34 = .ok (.if_icmp .eq 16, 3) := dk_159 0 16 (dk_at dksX20_holds_1 10 rfl rfl)
theorem dX20_holds_37 : decode cX20_holds 37 = .ok (.aload_n 0, 1) := dk_42 (dk_at dksX20_holds_1 13 rfl rfl)
theorem dX20_holds_38 : decode cX20_holds 38 = .ok (.getfield 16, 3) := dk_180 0 16 (dk_at dksX20_holds_1 14 rfl rfl)
theorem dX20_holds_41 : decode cX20_holds 41 = .ok (.ifCond .ne 7, 3) := dk_154 0 7 (dk_at dksX20_holds_1 17 rfl rfl)
theorem dX20_holds_44 : decode cX20_holds 44 = .ok (.iconst 1, 1) := dk_4 (dk_at dksX20_holds_1 20 rfl rfl)
theorem dX20_holds_45 : decode cX20_holds 45 = .ok (.goto 4, 3) := dk_167 0 4 (dk_at dksX20_holds_1 21 rfl rfl)
theorem dX20_holds_48 : decode cX20_holds 48 = .ok (.iconst 0, 1) := dk_3 (dk_at dksX20_holds_2 0 rfl rfl)
theorem dX20_holds_49 : decode cX20_holds 49 = .ok (.ireturn, 1) := dk_172 (dk_at dksX20_holds_2 1 rfl rfl)
theorem dX20_holds_50 : decode cX20_holds 50 = .ok (.iinc 2 1, 3) := dk_132 2 1 (dk_at dksX20_holds_2 2 rfl rfl)
theorem dX20_holds_53 : decode cX20_holds 53 = .ok (.goto (-51), 3) := dk_167 255 205 (dk_at dksX20_holds_2 5 rfl rfl)
theorem dX20_holds_56 : decode cX20_holds 56 = .ok (.aload_n 0, 1) := dk_42 (dk_at dksX20_holds_2 8 rfl rfl)
theorem dX20_holds_57 : decode cX20_holds 57 = .ok (.getfield 16, 3) := dk_180 0 16 (dk_at dksX20_holds_2 9 rfl rfl)
theorem dX20_holds_60 : decode cX20_holds 60 = .ok (.ireturn, 1) := dk_172 (dk_at dksX20_holds_2 12 rfl rfl)
abbrev cX21_holds : ByteArray := prog_9_method_2_code
def yX21_holds : MethodName := ⟨RX21, "holds", "(LSofaDig$Sofa;)Z"⟩
def dkwX21_holds_0 : List UInt8 := [42, 180, 0, 7, 43, 185, 0, 13, 2, 0, 154, 0, 7, 4, 167, 0, 4, 3, 172]
abbrev dktX21_holds_0 : List UInt8 := dkwX21_holds_0 ++ []
theorem dksX21_holds_0 : cX21_holds.data.toList.drop 0 = dktX21_holds_0 := by decide +kernel
theorem dX21_holds_0 : decode cX21_holds 0 = .ok (.aload_n 0, 1) := dk_42 (dk_at dksX21_holds_0 0 rfl rfl)
theorem dX21_holds_1 : decode cX21_holds 1 = .ok (.getfield 7, 3) := dk_180 0 7 (dk_at dksX21_holds_0 1 rfl rfl)
theorem dX21_holds_4 : decode cX21_holds 4 = .ok (.aload_n 1, 1) := dk_43 (dk_at dksX21_holds_0 4 rfl rfl)
theorem dX21_holds_5 : decode cX21_holds 5 = .ok (.invokeinterface 13 2, 5) := by decide +kernel
theorem dX21_holds_10 : decode cX21_holds 10 = .ok (.ifCond .ne 7, 3) := dk_154 0 7 (dk_at dksX21_holds_0 10 rfl rfl)
theorem dX21_holds_13 : decode cX21_holds 13 = .ok (.iconst 1, 1) := dk_4 (dk_at dksX21_holds_0 13 rfl rfl)
theorem dX21_holds_14 : decode cX21_holds 14 = .ok (.goto 4, 3) := dk_167 0 4 (dk_at dksX21_holds_0 14 rfl rfl)
theorem dX21_holds_17 : decode cX21_holds 17 = .ok (.iconst 0, 1) := dk_3 (dk_at dksX21_holds_0 17 rfl rfl)
theorem dX21_holds_18 : decode cX21_holds 18 = .ok (.ireturn, 1) := dk_172 (dk_at dksX21_holds_0 18 rfl rfl)
abbrev mX20_holds : sd_Y := (yX20_holds, cX20_holds, 3, some (.boolean), none)
abbrev mX21_holds : sd_Y := (yX21_holds, cX21_holds, 2, some (.boolean), none)
abbrev TRT : Type := (Nat → Nat → sd_M Int32) × (Nat → Nat → sd_M Int32)
def HRT (l : Launch) (G : sd_G) (d : Nat) (R : TRT) : Prop := (∀ (a0 : Nat) (a1 : Nat) (h : sd_H) (ρ : Int32) (cT : Nat × Nat) (h2 : sd_H), R.1 a0 a1 h = some (ρ, cT, h2) → sd_Met mX20_holds ((l, G), (d + 464, 30 * d + 13981), [.ref a0, .ref a1], (sd_oI ρ, h2), cT) h) ∧
  (∀ (a0 : Nat) (a1 : Nat) (h : sd_H) (ρ : Int32) (cT : Nat × Nat) (h2 : sd_H), R.2 a0 a1 h = some (ρ, cT, h2) → sd_Met mX21_holds ((l, G), (d + 464, 30 * d + 13981), [.ref a0, .ref a1], (sd_oI ρ, h2), cT) h)
theorem q172 : (Jvm.Cond.initialized "SofaDig$Several") ∈ lw_all := lw_g (lw_at lw_m1 57 rfl) rfl
theorem q173 : (Jvm.Cond.initialized "SofaDig$Denied") ∈ lw_all := lw_g (lw_at lw_m1 58 rfl) rfl
theorem q174 : (Jvm.Cond.initialized "SofaDig$Seen") ∈ lw_all := lw_g (lw_at lw_m1 59 rfl) rfl
theorem q175 : (Jvm.Cond.initialized "SofaDig$Sure") ∈ lw_all := lw_g (lw_at lw_m1 60 rfl) rfl
theorem q176 : (Jvm.Cond.initialized "SofaDig$Compared") ∈ lw_all := lw_g (lw_at lw_m1 61 rfl) rfl
theorem q2595 : (Jvm.Cond.castable "SofaDig$Compared" "SofaDig$Test") ∈ lw_tbl := lw_at lw_m11 80 rfl
theorem q2596 : (Jvm.Cond.selects "SofaDig$Compared" ({ cls := "SofaDig$Test", name := "holds", desc := "(LSofaDig$Sofa;)Z" } : Jvm.MethodName) ({ cls := "SofaDig$Compared", name := "holds", desc := "(LSofaDig$Sofa;)Z" } : Jvm.MethodName)) ∈ lw_all := lw_g (lw_at lw_m11 81 rfl) rfl
theorem q2598 : (Jvm.Cond.instanceMethod ({ cls := "SofaDig$Compared", name := "holds", desc := "(LSofaDig$Sofa;)Z" } : Jvm.MethodName)) ∈ lw_all := lw_g (lw_at lw_m11 83 rfl) rfl
theorem q2680 : (Jvm.Cond.castable "SofaDig$Denied" "SofaDig$Test") ∈ lw_tbl := lw_at lw_m11 165 rfl
theorem q2681 : (Jvm.Cond.selects "SofaDig$Denied" ({ cls := "SofaDig$Test", name := "holds", desc := "(LSofaDig$Sofa;)Z" } : Jvm.MethodName) ({ cls := "SofaDig$Denied", name := "holds", desc := "(LSofaDig$Sofa;)Z" } : Jvm.MethodName)) ∈ lw_all := lw_g (lw_at lw_m11 166 rfl) rfl
theorem q2683 : (Jvm.Cond.instanceMethod ({ cls := "SofaDig$Denied", name := "holds", desc := "(LSofaDig$Sofa;)Z" } : Jvm.MethodName)) ∈ lw_all := lw_g (lw_at lw_m11 168 rfl) rfl
theorem q2685 : (Jvm.Cond.code ({ cls := "SofaDig$Denied", name := "holds", desc := "(LSofaDig$Sofa;)Z" } : Jvm.MethodName) prog_9_method_2_code (2 : Nat) (Option.some Jvm.ClassFile.FieldType.boolean)) ∈ lw_all := lw_g (lw_at lw_m11 170 rfl) rfl
theorem q2687 : (Jvm.Cond.methodLink "SofaDig$Denied" (13 : Nat) ({ cls := "SofaDig$Test", name := "holds", desc := "(LSofaDig$Sofa;)Z" } : Jvm.MethodName)) ∈ lw_all := lw_g (lw_at lw_m11 172 rfl) rfl
theorem q2688 : (Jvm.Cond.castable "SofaDig$Seen" "SofaDig$Test") ∈ lw_tbl := lw_at lw_m11 173 rfl
theorem q2689 : (Jvm.Cond.selects "SofaDig$Seen" ({ cls := "SofaDig$Test", name := "holds", desc := "(LSofaDig$Sofa;)Z" } : Jvm.MethodName) ({ cls := "SofaDig$Seen", name := "holds", desc := "(LSofaDig$Sofa;)Z" } : Jvm.MethodName)) ∈ lw_all := lw_g (lw_at lw_m11 174 rfl) rfl
theorem q2691 : (Jvm.Cond.instanceMethod ({ cls := "SofaDig$Seen", name := "holds", desc := "(LSofaDig$Sofa;)Z" } : Jvm.MethodName)) ∈ lw_all := lw_g (lw_at lw_m11 176 rfl) rfl
theorem q2695 : (Jvm.Cond.castable "SofaDig$Several" "SofaDig$Test") ∈ lw_tbl := lw_at lw_m11 180 rfl
theorem q2696 : (Jvm.Cond.selects "SofaDig$Several" ({ cls := "SofaDig$Test", name := "holds", desc := "(LSofaDig$Sofa;)Z" } : Jvm.MethodName) ({ cls := "SofaDig$Several", name := "holds", desc := "(LSofaDig$Sofa;)Z" } : Jvm.MethodName)) ∈ lw_all := lw_g (lw_at lw_m11 181 rfl) rfl
theorem q2698 : (Jvm.Cond.instanceMethod ({ cls := "SofaDig$Several", name := "holds", desc := "(LSofaDig$Sofa;)Z" } : Jvm.MethodName)) ∈ lw_all := lw_g (lw_at lw_m11 183 rfl) rfl
theorem q2700 : (Jvm.Cond.code ({ cls := "SofaDig$Several", name := "holds", desc := "(LSofaDig$Sofa;)Z" } : Jvm.MethodName) prog_21_method_2_code (3 : Nat) (Option.some Jvm.ClassFile.FieldType.boolean)) ∈ lw_all := lw_g (lw_at lw_m11 185 rfl) rfl
theorem q2701 : (Jvm.Cond.methodLink "SofaDig$Several" (20 : Nat) ({ cls := "java/util/ArrayList", name := "size", desc := "()I" } : Jvm.MethodName)) ∈ lw_all := lw_g (lw_at lw_m11 186 rfl) rfl
theorem q2702 : (Jvm.Cond.methodLink "SofaDig$Several" (24 : Nat) ({ cls := "java/util/ArrayList", name := "get", desc := "(I)Ljava/lang/Object;" } : Jvm.MethodName)) ∈ lw_all := lw_g (lw_at lw_m11 187 rfl) rfl
theorem q2703 : (Jvm.Cond.classLink "SofaDig$Several" (28 : Nat) "SofaDig$Test") ∈ lw_all := lw_g (lw_at lw_m11 188 rfl) rfl
theorem q2705 : (Jvm.Cond.methodLink "SofaDig$Several" (30 : Nat) ({ cls := "SofaDig$Test", name := "holds", desc := "(LSofaDig$Sofa;)Z" } : Jvm.MethodName)) ∈ lw_all := lw_g (lw_at lw_m11 190 rfl) rfl
theorem q2706 : (Jvm.Cond.castable "SofaDig$Sure" "SofaDig$Test") ∈ lw_tbl := lw_at lw_m11 191 rfl
theorem q2707 : (Jvm.Cond.selects "SofaDig$Sure" ({ cls := "SofaDig$Test", name := "holds", desc := "(LSofaDig$Sofa;)Z" } : Jvm.MethodName) ({ cls := "SofaDig$Sure", name := "holds", desc := "(LSofaDig$Sofa;)Z" } : Jvm.MethodName)) ∈ lw_all := lw_g (lw_at lw_m11 192 rfl) rfl
theorem q2709 : (Jvm.Cond.instanceMethod ({ cls := "SofaDig$Sure", name := "holds", desc := "(LSofaDig$Sofa;)Z" } : Jvm.MethodName)) ∈ lw_all := lw_g (lw_at lw_m11 194 rfl) rfl
theorem q2714 : (Jvm.Cond.castable "SofaDig$Test$1" "SofaDig$Test") ∈ lw_tbl := lw_at lw_m11 199 rfl
theorem q2715 : (Jvm.Cond.selects "SofaDig$Test$1" ({ cls := "SofaDig$Test", name := "holds", desc := "(LSofaDig$Sofa;)Z" } : Jvm.MethodName) ({ cls := "SofaDig$Test$1", name := "holds", desc := "(LSofaDig$Sofa;)Z" } : Jvm.MethodName)) ∈ lw_all := lw_g (lw_at lw_m11 200 rfl) rfl
theorem q2717 : (Jvm.Cond.instanceMethod ({ cls := "SofaDig$Test$1", name := "holds", desc := "(LSofaDig$Sofa;)Z" } : Jvm.MethodName)) ∈ lw_all := lw_g (lw_at lw_m11 202 rfl) rfl
/-! SofaDig$Several.holds(LSofaDig$Sofa;)Z -/
theorem fdX20_10_18 : sd_Fd "SofaDig$Several" 10 18 1 := ⟨(RX20, TX20, 2), "SofaDig$Several", rfl, by decide, rfl, in_X20, Or.inl rfl, Or.inl q1989⟩
theorem fdX20_16_18 : sd_Fd "SofaDig$Several" 16 18 0 := ⟨(RX20, TX20, 2), "SofaDig$Several", rfl, by decide, rfl, in_X20, Or.inl rfl, Or.inl q1988⟩
theorem fc_SofaDig_Test : sd_Fc [18, 19, 20, 21, 22, 23] "SofaDig$Test" := fun ci r hm hc => by
  simp only [List.mem_cons, List.not_mem_nil, or_false] at hm
  rcases hm with rfl | rfl | rfl | rfl | rfl | rfl
  · cases hc; exact Or.inr q2695
  · cases hc; exact Or.inr q2680
  · cases hc; exact Or.inr q2688
  · cases hc; exact Or.inr q2706
  · cases hc; exact Or.inr q2595
  · cases hc; exact Or.inr q2714
def fX20_holds_b2 (G : sd_G) (R : TRT) (k2 : Nat × Nat × Int32 → sd_M Int32) (w0 : Nat) (w1 : Nat) (w2 : Int32) : sd_M Int32 :=
  sd_bnd (sd_getR G 18 1 w0) fun v1 =>
  sd_bnd (sd_isC G 41 v1) fun _ =>
  sd_bnd (fJ2_size G v1) fun r2 =>
  if r2 ≤ w2 then (
    sd_bnd (sd_getI G 18 0 w0) fun v3 =>
    sd_retN .boolean v3)
  else (
    sd_bnd (sd_getR G 18 1 w0) fun v4 =>
    sd_bnd (sd_isC G 41 v4) fun _ =>
    sd_bnd (fJ2_get G v4 w2) fun r5 =>
    sd_bnd (sd_cast G [18, 19, 20, 21, 22, 23] r5) fun _ =>
    sd_bnd (sd_bnd (sd_cls G r5) fun k25 => if k25 = 18 then R.1 r5 w1 else if k25 = 19 then R.2 r5 w1 else if k25 = 20 then fX22_holds G r5 w1 else if k25 = 21 then fX23_holds G r5 w1 else if k25 = 22 then fX24_holds G r5 w1 else if k25 = 23 then fX26_holds G r5 w1 else sd_fail) fun r6 =>
    sd_bnd (sd_getI G 18 0 w0) fun v7 =>
    if r6 = v7 then (
      sd_bnd (sd_ret (w2 + 1)) fun x8 =>
      k2 (w0, w1, x8))
    else (
      sd_bnd (sd_getI G 18 0 w0) fun v9 =>
      if v9 = 0 then (
        sd_ret 1)
      else (
        sd_ret 0)))
set_option maxHeartbeats 4000000 in
theorem sX20_holds_b2 (l : Launch) (G : sd_G) (d : Nat) (R : TRT) (HR : HRT l G d R) (a0 : Nat) (a1 : Nat) (ρ : Int32) (h2 : sd_H) (cT : Nat × Nat) (k2 : Nat × Nat × Int32 → sd_M Int32) (Hk2 : ∀ (q : Nat × Nat × Int32) (h : sd_H) (c : Nat × Nat), k2 q h = some (ρ, c, h2) → sd_J mX20_holds ((l, G), (d + 1 + 464, 30 * (d + 1) + 13981), [.ref a0, .ref a1], (sd_oI ρ, h2), cT) 2 [(0, .ref q.1), (1, .ref q.2.1), (2, .int q.2.2)] [] h c) (w0 : Nat) (w1 : Nat) (w2 : Int32) (h : sd_H) (c : Nat × Nat) (hf : fX20_holds_b2 G R k2 w0 w1 w2 h = some (ρ, c, h2)) : sd_J mX20_holds ((l, G), (d + 1 + 464, 30 * (d + 1) + 13981), [.ref a0, .ref a1], (sd_oI ρ, h2), cT) 2 [(0, .ref w0), (1, .ref w1), (2, .int w2)] [] h c := by
  unfold fX20_holds_b2 at hf
  refine sj_iload_n 2 dX20_holds_2 rfl ?_
  refine sj_aload_n 0 dX20_holds_3 rfl ?_
  refine sj_getR fdX20_10_18 hf dX20_holds_4 (fun v1 hf => ?_)
  obtain ⟨fs7, he7, hf⟩ := sd_isC_some hf
  refine sj_cI (rest := [.int w2]) (fun _ _ _ e => sj_runV (n := 0) (As := []) (rest := [.int w2]) (sJ2_size l G v1 h _ _ _ e) he7 rfl rfl rfl rfl q2701 q490 q491 q121 q492 (by decide +kernel) rfl rfl ⟨by show 0 + 1 ≤ d + 1 + 464; omega, by show 8 + (1 + 11) + 0 ≤ 30 * (d + 1) + 13981; omega⟩ rfl (Nat.le_of_ble_eq_true rfl) dX20_holds_7) hf (fun r2 h c hf => ?_)
  refine sj_icge 56 hf dX20_holds_10 (by decide) (fun g10 hf => ?_) (fun g10 hf => ?_)
  · refine sj_aload_n 0 dX20_holds_56 rfl ?_
    refine sj_getI fdX20_16_18 hf dX20_holds_57 (fun v3 hf => ?_)
    exact sj_zret hf rfl rfl dX20_holds_60
  · refine sj_aload_n 0 dX20_holds_13 rfl ?_
    refine sj_getR fdX20_10_18 hf dX20_holds_14 (fun v4 hf => ?_)
    refine sj_iload_n 2 dX20_holds_17 rfl ?_
    obtain ⟨fs18, he18, hf⟩ := sd_isC_some hf
    refine sj_cR (rest := []) (fun _ _ _ e => sj_runV (n := 1) (As := [.int w2]) (rest := []) (sJ2_get l G v4 w2 h _ _ _ e) he18 rfl rfl rfl rfl q2702 q1002 q3425 q121 q1004 (by decide +kernel) rfl rfl ⟨by show 2 + 1 ≤ d + 1 + 464; omega, by show 8 + (2 + 11) + 43 ≤ 30 * (d + 1) + 13981; omega⟩ rfl (Nat.le_of_ble_eq_true rfl) dX20_holds_18) hf (fun r5 h c hf => ?_)
    obtain ⟨ci21, fs21, he21, hm21, hf⟩ := sd_cast_some hf
    refine sj_cast he21 hm21 fc_SofaDig_Test q2703 dX20_holds_21 ?_
    refine sj_aload_n 1 dX20_holds_24 rfl ?_
    refine sj_cI (rest := []) (fun _ _ _ e => by
      obtain ⟨ci25, fs25, he25, e⟩ := sd_cls_some e
      by_cases z25_18 : ci25 = 18
      · rw [if_pos z25_18] at e; subst z25_18; exact sj_runF (n := 1) 0 (As := [.ref w1]) (rest := []) (HR.1 r5 w1 h _ _ _ e) he25 rfl rfl rfl rfl rfl q2705 q2696 q2698 q172 q2700 (by decide +kernel) rfl rfl (fun _ z => by cases z) ⟨by show d + 464 + 1 ≤ d + 1 + 464; omega, by show 8 + (3 + 11) + (30 * d + 13981) ≤ 30 * (d + 1) + 13981; omega⟩ rfl (Nat.le_of_ble_eq_true rfl) dX20_holds_25
      rw [if_neg z25_18] at e
      by_cases z25_19 : ci25 = 19
      · rw [if_pos z25_19] at e; subst z25_19; exact sj_runF (n := 1) 1 (As := [.ref w1]) (rest := []) (HR.2 r5 w1 h _ _ _ e) he25 rfl rfl rfl rfl rfl q2705 q2681 q2683 q173 q2685 (by decide +kernel) rfl rfl (fun _ z => by cases z) ⟨by show d + 464 + 1 ≤ d + 1 + 464; omega, by show 8 + (2 + 11) + (30 * d + 13981) ≤ 30 * (d + 1) + 13981; omega⟩ rfl (Nat.le_of_ble_eq_true rfl) dX20_holds_25
      rw [if_neg z25_19] at e
      by_cases z25_20 : ci25 = 20
      · rw [if_pos z25_20] at e; subst z25_20; exact sj_runF (n := 1) 2 (As := [.ref w1]) (rest := []) (sX22_holds l G r5 w1 h _ _ _ e) he25 rfl rfl rfl rfl rfl q2705 q2689 q2691 q174 q2693 (by decide +kernel) rfl rfl (fun _ z => by cases z) ⟨by show 4 + 1 ≤ d + 1 + 464; omega, by show 8 + (3 + 11) + 88 ≤ 30 * (d + 1) + 13981; omega⟩ rfl (Nat.le_of_ble_eq_true rfl) dX20_holds_25
      rw [if_neg z25_20] at e
      by_cases z25_21 : ci25 = 21
      · rw [if_pos z25_21] at e; subst z25_21; exact sj_runF (n := 1) 3 (As := [.ref w1]) (rest := []) (sX23_holds l G r5 w1 h _ _ _ e) he25 rfl rfl rfl rfl rfl q2705 q2707 q2709 q175 q2711 (by decide +kernel) rfl rfl (fun _ z => by cases z) ⟨by show 463 + 1 ≤ d + 1 + 464; omega, by show 8 + (3 + 11) + 13921 ≤ 30 * (d + 1) + 13981; omega⟩ rfl (Nat.le_of_ble_eq_true rfl) dX20_holds_25
      rw [if_neg z25_21] at e
      by_cases z25_22 : ci25 = 22
      · rw [if_pos z25_22] at e; subst z25_22; exact sj_runF (n := 1) 4 (As := [.ref w1]) (rest := []) (sX24_holds l G r5 w1 h _ _ _ e) he25 rfl rfl rfl rfl rfl q2705 q2596 q2598 q176 q2600 (by decide +kernel) rfl rfl (fun _ z => by cases z) ⟨by show 463 + 1 ≤ d + 1 + 464; omega, by show 8 + (3 + 11) + 13921 ≤ 30 * (d + 1) + 13981; omega⟩ rfl (Nat.le_of_ble_eq_true rfl) dX20_holds_25
      rw [if_neg z25_22] at e
      by_cases z25_23 : ci25 = 23
      · rw [if_pos z25_23] at e; subst z25_23; exact sj_runF (n := 1) 5 (As := [.ref w1]) (rest := []) (sX26_holds l G r5 w1 h _ _ _ e) he25 rfl rfl rfl rfl rfl q2705 q2715 q2717 q178 q2719 (by decide +kernel) rfl rfl (fun _ z => by cases z) ⟨by show 0 + 1 ≤ d + 1 + 464; omega, by show 8 + (2 + 11) + 0 ≤ 30 * (d + 1) + 13981; omega⟩ rfl (Nat.le_of_ble_eq_true rfl) dX20_holds_25
      rw [if_neg z25_23] at e
      cases e) hf (fun r6 h c hf => ?_)
    refine sj_aload_n 0 dX20_holds_30 rfl ?_
    refine sj_getI fdX20_16_18 hf dX20_holds_31 (fun v7 hf => ?_)
    refine sj_iceq 50 hf dX20_holds_34 (by decide) (fun g34 hf => ?_) (fun g34 hf => ?_)
    · refine sj_iincN 2 (fun x8 => [(2, .int x8), (0, .ref w0), (1, .ref w1)]) 1 hf dX20_holds_50 rfl (by decide) (by decide) (fun _ => rfl) (fun x8 hf => ?_)
      refine sj_goto 2 dX20_holds_53 (by decide) ?_
      exact sj_loc [1, 2, 0] rfl (Hk2 (w0, w1, x8) _ _ hf)
    · refine sj_aload_n 0 dX20_holds_37 rfl ?_
      refine sj_getI fdX20_16_18 hf dX20_holds_38 (fun v9 hf => ?_)
      refine sj_ifne 48 hf dX20_holds_41 (by decide) (fun g41 hf => ?_) (fun g41 hf => ?_)
      · refine sj_iconst (v := 0) dX20_holds_48 (by decide) ?_
        exact sj_zretC (o := sd_oI) (ty := .boolean) rfl hf rfl rfl rfl dX20_holds_49
      · refine sj_iconst (v := 1) dX20_holds_44 (by decide) ?_
        refine sj_goto 49 dX20_holds_45 (by decide) ?_
        exact sj_zretC (o := sd_oI) (ty := .boolean) rfl hf rfl rfl rfl dX20_holds_49
theorem sX20_holds_b2_loop (l : Launch) (G : sd_G) (d : Nat) (R : TRT) (HR : HRT l G d R) (a0 : Nat) (a1 : Nat) (ρ : Int32) (h2 : sd_H) (cT : Nat × Nat) (n : Nat) : ∀ (q : Nat × Nat × Int32) (h : sd_H) (c : Nat × Nat), sd_loop (fun k s => fX20_holds_b2 G R k s.1 s.2.1 s.2.2) n q h = some (ρ, c, h2) → sd_J mX20_holds ((l, G), (d + 1 + 464, 30 * (d + 1) + 13981), [.ref a0, .ref a1], (sd_oI ρ, h2), cT) 2 [(0, .ref q.1), (1, .ref q.2.1), (2, .int q.2.2)] [] h c := by
  induction n with
  | zero => intro q h c hf; cases hf
  | succ n ih => intro q h c hf; exact sX20_holds_b2 l G d R HR a0 a1 ρ h2 cT _ ih _ _ _ _ _ hf
def fX20_holds (G : sd_G) (R : TRT) (a0 : Nat) (a1 : Nat) : sd_M Int32 :=
  sd_loop (fun k s => fX20_holds_b2 G R k s.1 s.2.1 s.2.2) sd_FU (a0, a1, 0)
set_option maxHeartbeats 4000000 in
theorem sX20_holds (l : Launch) (G : sd_G) (d : Nat) (R : TRT) (HR : HRT l G d R) (a0 : Nat) (a1 : Nat) (h : sd_H) (ρ : Int32) (cT : Nat × Nat) (h2 : sd_H) (hf : fX20_holds G R a0 a1 h = some (ρ, cT, h2)) : sd_Met mX20_holds ((l, G), (d + 1 + 464, 30 * (d + 1) + 13981), [.ref a0, .ref a1], (sd_oI ρ, h2), cT) h := by
  refine sd_entry (plainFor_of_name rfl) rfl (Nat.le_of_ble_eq_true rfl) ?_
  show sd_J mX20_holds ((l, G), (d + 1 + 464, 30 * (d + 1) + 13981), [.ref a0, .ref a1], (sd_oI ρ, h2), cT) 0 [(0, .ref a0), (1, .ref a1)] [] h cT
  unfold fX20_holds at hf
  refine sj_iconst (v := 0) dX20_holds_0 (by decide) ?_
  refine sj_istore_n [(2, .int 0), (0, .ref a0), (1, .ref a1)] dX20_holds_1 (by decide) rfl ?_
  exact sj_loc [1, 2, 0] rfl (sX20_holds_b2_loop l G d R HR a0 a1 ρ h2 cT sd_FU (a0, a1, 0) _ _ hf)
/-! SofaDig$Denied.holds(LSofaDig$Sofa;)Z -/
theorem fdX21_7_19 : sd_Fd "SofaDig$Denied" 7 19 0 := ⟨(RX21, TX21, 1), "SofaDig$Denied", rfl, by decide, rfl, in_X21, Or.inl rfl, Or.inl q2011⟩
def fX21_holds (G : sd_G) (R : TRT) (a0 : Nat) (a1 : Nat) : sd_M Int32 :=
  sd_bnd (sd_getR G 19 0 a0) fun v1 =>
  sd_bnd (sd_bnd (sd_cls G v1) fun k5 => if k5 = 18 then R.1 v1 a1 else if k5 = 19 then R.2 v1 a1 else if k5 = 20 then fX22_holds G v1 a1 else if k5 = 21 then fX23_holds G v1 a1 else if k5 = 22 then fX24_holds G v1 a1 else if k5 = 23 then fX26_holds G v1 a1 else sd_fail) fun r2 =>
  if r2 = 0 then (
    sd_ret 1)
  else (
    sd_ret 0)
set_option maxHeartbeats 4000000 in
theorem sX21_holds (l : Launch) (G : sd_G) (d : Nat) (R : TRT) (HR : HRT l G d R) (a0 : Nat) (a1 : Nat) (h : sd_H) (ρ : Int32) (cT : Nat × Nat) (h2 : sd_H) (hf : fX21_holds G R a0 a1 h = some (ρ, cT, h2)) : sd_Met mX21_holds ((l, G), (d + 1 + 464, 30 * (d + 1) + 13981), [.ref a0, .ref a1], (sd_oI ρ, h2), cT) h := by
  refine sd_entry (plainFor_of_name rfl) rfl (Nat.le_of_ble_eq_true rfl) ?_
  show sd_J mX21_holds ((l, G), (d + 1 + 464, 30 * (d + 1) + 13981), [.ref a0, .ref a1], (sd_oI ρ, h2), cT) 0 [(0, .ref a0), (1, .ref a1)] [] h cT
  unfold fX21_holds at hf
  refine sj_aload_n 0 dX21_holds_0 rfl ?_
  refine sj_getR fdX21_7_19 hf dX21_holds_1 (fun v1 hf => ?_)
  refine sj_aload_n 1 dX21_holds_4 rfl ?_
  refine sj_cI (rest := []) (fun _ _ _ e => by
    obtain ⟨ci5, fs5, he5, e⟩ := sd_cls_some e
    by_cases z5_18 : ci5 = 18
    · rw [if_pos z5_18] at e; subst z5_18; exact sj_runF (n := 1) 0 (As := [.ref a1]) (rest := []) (HR.1 v1 a1 h _ _ _ e) he5 rfl rfl rfl rfl rfl q2687 q2696 q2698 q172 q2700 (by decide +kernel) rfl rfl (fun _ z => by cases z) ⟨by show d + 464 + 1 ≤ d + 1 + 464; omega, by show 8 + (3 + 11) + (30 * d + 13981) ≤ 30 * (d + 1) + 13981; omega⟩ rfl (Nat.le_of_ble_eq_true rfl) dX21_holds_5
    rw [if_neg z5_18] at e
    by_cases z5_19 : ci5 = 19
    · rw [if_pos z5_19] at e; subst z5_19; exact sj_runF (n := 1) 1 (As := [.ref a1]) (rest := []) (HR.2 v1 a1 h _ _ _ e) he5 rfl rfl rfl rfl rfl q2687 q2681 q2683 q173 q2685 (by decide +kernel) rfl rfl (fun _ z => by cases z) ⟨by show d + 464 + 1 ≤ d + 1 + 464; omega, by show 8 + (2 + 11) + (30 * d + 13981) ≤ 30 * (d + 1) + 13981; omega⟩ rfl (Nat.le_of_ble_eq_true rfl) dX21_holds_5
    rw [if_neg z5_19] at e
    by_cases z5_20 : ci5 = 20
    · rw [if_pos z5_20] at e; subst z5_20; exact sj_runF (n := 1) 2 (As := [.ref a1]) (rest := []) (sX22_holds l G v1 a1 h _ _ _ e) he5 rfl rfl rfl rfl rfl q2687 q2689 q2691 q174 q2693 (by decide +kernel) rfl rfl (fun _ z => by cases z) ⟨by show 4 + 1 ≤ d + 1 + 464; omega, by show 8 + (3 + 11) + 88 ≤ 30 * (d + 1) + 13981; omega⟩ rfl (Nat.le_of_ble_eq_true rfl) dX21_holds_5
    rw [if_neg z5_20] at e
    by_cases z5_21 : ci5 = 21
    · rw [if_pos z5_21] at e; subst z5_21; exact sj_runF (n := 1) 3 (As := [.ref a1]) (rest := []) (sX23_holds l G v1 a1 h _ _ _ e) he5 rfl rfl rfl rfl rfl q2687 q2707 q2709 q175 q2711 (by decide +kernel) rfl rfl (fun _ z => by cases z) ⟨by show 463 + 1 ≤ d + 1 + 464; omega, by show 8 + (3 + 11) + 13921 ≤ 30 * (d + 1) + 13981; omega⟩ rfl (Nat.le_of_ble_eq_true rfl) dX21_holds_5
    rw [if_neg z5_21] at e
    by_cases z5_22 : ci5 = 22
    · rw [if_pos z5_22] at e; subst z5_22; exact sj_runF (n := 1) 4 (As := [.ref a1]) (rest := []) (sX24_holds l G v1 a1 h _ _ _ e) he5 rfl rfl rfl rfl rfl q2687 q2596 q2598 q176 q2600 (by decide +kernel) rfl rfl (fun _ z => by cases z) ⟨by show 463 + 1 ≤ d + 1 + 464; omega, by show 8 + (3 + 11) + 13921 ≤ 30 * (d + 1) + 13981; omega⟩ rfl (Nat.le_of_ble_eq_true rfl) dX21_holds_5
    rw [if_neg z5_22] at e
    by_cases z5_23 : ci5 = 23
    · rw [if_pos z5_23] at e; subst z5_23; exact sj_runF (n := 1) 5 (As := [.ref a1]) (rest := []) (sX26_holds l G v1 a1 h _ _ _ e) he5 rfl rfl rfl rfl rfl q2687 q2715 q2717 q178 q2719 (by decide +kernel) rfl rfl (fun _ z => by cases z) ⟨by show 0 + 1 ≤ d + 1 + 464; omega, by show 8 + (2 + 11) + 0 ≤ 30 * (d + 1) + 13981; omega⟩ rfl (Nat.le_of_ble_eq_true rfl) dX21_holds_5
    rw [if_neg z5_23] at e
    cases e) hf (fun r2 h c hf => ?_)
  refine sj_ifne 17 hf dX21_holds_10 (by decide) (fun g10 hf => ?_) (fun g10 hf => ?_)
  · refine sj_iconst (v := 0) dX21_holds_17 (by decide) ?_
    exact sj_zretC (o := sd_oI) (ty := .boolean) rfl hf rfl rfl rfl dX21_holds_18
  · refine sj_iconst (v := 1) dX21_holds_13 (by decide) ?_
    refine sj_goto 18 dX21_holds_14 (by decide) ?_
    exact sj_zretC (o := sd_oI) (ty := .boolean) rfl hf rfl rfl rfl dX21_holds_18
def pRT (G : sd_G) : Nat → TRT
  | 0 => (fun _ _ => sd_fail, fun _ _ => sd_fail)
  | d + 1 => (fun a0 a1 => fX20_holds G (pRT G d) a0 a1,
    fun a0 a1 => fX21_holds G (pRT G d) a0 a1)
theorem spRT (l : Launch) (G : sd_G) : ∀ d, HRT l G d (pRT G d)
  | 0 => ⟨fun _ _ _ _ _ _ e => (by cases e), fun _ _ _ _ _ _ e => (by cases e)⟩
  | d + 1 => ⟨fun a0 a1 h ρ cT h2 e => sX20_holds l G d (pRT G d) (spRT l G d) a0 a1 h ρ cT h2 e,
    fun a0 a1 h ρ cT h2 e => sX21_holds l G d (pRT G d) (spRT l G d) a0 a1 h ρ cT h2 e⟩
