set_option maxRecDepth 100000
theorem q116 : (Jvm.Cond.initialized "SofaDig") ∈ lw_all := lw_g (lw_at lw_m1 1 rfl) rfl
theorem q132 : (Jvm.Cond.initialized "java/lang/IllegalStateException") ∈ lw_all := lw_g (lw_at lw_m1 17 rfl) rfl
theorem q133 : (Jvm.Cond.initialized "java/lang/IllegalArgumentException") ∈ lw_all := lw_g (lw_at lw_m1 18 rfl) rfl
theorem q179 : (Jvm.Cond.initialized "java/lang/IndexOutOfBoundsException") ∈ lw_all := lw_g (lw_at lw_m1 64 rfl) rfl
theorem q186 : (Jvm.Cond.code ({ cls := "SofaDig", name := "<init>", desc := "()V" } : Jvm.MethodName) prog_1_method_6_code (1 : Nat) (Option.none : Option Jvm.ClassFile.FieldType)) ∈ lw_all := lw_g (lw_at lw_m1 71 rfl) rfl
theorem q187 : (Jvm.Cond.methodLink "SofaDig" (33 : Nat) ({ cls := "java/lang/Object", name := "<init>", desc := "()V" } : Jvm.MethodName)) ∈ lw_all := lw_g (lw_at lw_m1 72 rfl) rfl
theorem q190 : (Jvm.Cond.classLink "SofaDig" (36 : Nat) "SofaDig$Tape") ∈ lw_all := lw_g (lw_at lw_m1 75 rfl) rfl
theorem q191 : (Jvm.Cond.instantiable "SofaDig$Tape" (2 : Nat)) ∈ lw_all := lw_g (lw_at lw_m1 76 rfl) rfl
theorem q192 : (Jvm.Cond.methodLinkNest "SofaDig" (38 : Nat) ({ cls := "SofaDig$Tape", name := "<init>", desc := "()V" } : Jvm.MethodName) "SofaDig") ∈ lw_tbl := lw_at lw_m1 77 rfl
theorem q193 : (Jvm.Cond.instanceMethod ({ cls := "SofaDig$Tape", name := "<init>", desc := "()V" } : Jvm.MethodName)) ∈ lw_all := lw_g (lw_at lw_m1 78 rfl) rfl
theorem q199 : (Jvm.Cond.fieldLinkNest "SofaDig" (61 : Nat) "SofaDig$Tape" "size" "I" "SofaDig") ∈ lw_tbl := lw_at lw_m1 84 rfl
theorem q206 : (Jvm.Cond.classLink "SofaDig" (47 : Nat) "SofaDig$Sofa") ∈ lw_all := lw_g (lw_at lw_m1 91 rfl) rfl
theorem q208 : (Jvm.Cond.methodLinkNest "SofaDig" (49 : Nat) ({ cls := "SofaDig$Sofa", name := "<init>", desc := "()V" } : Jvm.MethodName) "SofaDig") ∈ lw_tbl := lw_at lw_m1 93 rfl
theorem q243 : (Jvm.Cond.fieldLinkNest "SofaDig" (106 : Nat) "SofaDig$Sofa" "strata" "I" "SofaDig") ∈ lw_tbl := lw_at lw_m1 128 rfl
theorem q246 : (Jvm.Cond.fieldLinkNest "SofaDig" (99 : Nat) "SofaDig$Sofa" "seats" "I" "SofaDig") ∈ lw_tbl := lw_at lw_m1 131 rfl
theorem q254 : (Jvm.Cond.fieldLinkNest "SofaDig" (197 : Nat) "SofaDig$Sofa" "empires" "Ljava/util/ArrayList;" "SofaDig") ∈ lw_tbl := lw_at lw_m1 139 rfl
theorem q257 : (Jvm.Cond.fieldLinkNest "SofaDig" (109 : Nat) "SofaDig$Sofa" "finds" "Ljava/util/ArrayList;" "SofaDig") ∈ lw_tbl := lw_at lw_m1 142 rfl
theorem q263 : (Jvm.Cond.fieldLinkNest "SofaDig" (178 : Nat) "SofaDig$Sofa" "ends" "[I" "SofaDig") ∈ lw_tbl := lw_at lw_m1 148 rfl
theorem q266 : (Jvm.Cond.fieldLinkNest "SofaDig" (121 : Nat) "SofaDig$Sofa" "day" "I" "SofaDig") ∈ lw_tbl := lw_at lw_m1 151 rfl
theorem q268 : (Jvm.Cond.fieldLinkNest "SofaDig" (124 : Nat) "SofaDig$Sofa" "done" "I" "SofaDig") ∈ lw_tbl := lw_at lw_m1 153 rfl
theorem q271 : (Jvm.Cond.fieldLinkNest "SofaDig" (127 : Nat) "SofaDig$Sofa" "dug" "I" "SofaDig") ∈ lw_tbl := lw_at lw_m1 156 rfl
theorem q274 : (Jvm.Cond.fieldLinkNest "SofaDig" (130 : Nat) "SofaDig$Sofa" "slides" "I" "SofaDig") ∈ lw_tbl := lw_at lw_m1 159 rfl
theorem q301 : (Jvm.Cond.methodLink "SofaDig" (50 : Nat) ({ cls := "SofaDig$Sofa", name := "lay", desc := "()LSofaDig$Sofa;" } : Jvm.MethodName)) ∈ lw_all := lw_g (lw_at lw_m1 186 rfl) rfl
theorem q317 : (Jvm.Cond.fieldLinkNest "SofaDig" (156 : Nat) "SofaDig$Cushion" "stratum" "I" "SofaDig") ∈ lw_tbl := lw_at lw_m1 202 rfl
theorem q324 : (Jvm.Cond.fieldLinkNest "SofaDig" (165 : Nat) "SofaDig$Cushion" "hasSpring" "Z" "SofaDig") ∈ lw_tbl := lw_at lw_m1 209 rfl
theorem q327 : (Jvm.Cond.fieldLinkNest "SofaDig" (161 : Nat) "SofaDig$Cushion" "isLoose" "Z" "SofaDig") ∈ lw_tbl := lw_at lw_m1 212 rfl
theorem q439 : (Jvm.Cond.fieldLink "SofaDig" (39 : Nat) "SofaDig" "tape" "LSofaDig$Tape;") ∈ lw_all := lw_g (lw_at lw_m2 84 rfl) rfl
theorem q440 : (Jvm.Cond.fieldLink "SofaDig" (43 : Nat) "SofaDig" "errorAt" "I") ∈ lw_all := lw_g (lw_at lw_m2 85 rfl) rfl
theorem q441 : (Jvm.Cond.fieldLink "SofaDig" (54 : Nat) "SofaDig" "sofa" "LSofaDig$Sofa;") ∈ lw_all := lw_g (lw_at lw_m2 86 rfl) rfl
theorem q442 : (Jvm.Cond.fieldLink "SofaDig" (58 : Nat) "SofaDig" "ahead" "LSofaDig$Sofa;") ∈ lw_all := lw_g (lw_at lw_m2 87 rfl) rfl
theorem q455 : (Jvm.Cond.codeWith ({ cls := "SofaDig", name := "teach", desc := "()I" } : Jvm.MethodName) prog_1_method_9_code (3 : Nat) (Option.some Jvm.ClassFile.FieldType.int) [((7 : Nat), (35 : Nat), (38 : Nat), (91 : Nat))]) ∈ lw_all := lw_g (lw_at lw_m2 100 rfl) rfl
theorem q456 : (Jvm.Cond.classLink "SofaDig" (91 : Nat) "SofaDig$Fault") ∈ lw_all := lw_g (lw_at lw_m2 101 rfl) rfl
theorem q457 : (Jvm.Cond.classLink "SofaDig" (74 : Nat) "SofaDig$Reader") ∈ lw_all := lw_g (lw_at lw_m2 102 rfl) rfl
theorem q458 : (Jvm.Cond.instantiable "SofaDig$Reader" (6 : Nat)) ∈ lw_all := lw_g (lw_at lw_m2 103 rfl) rfl
theorem q459 : (Jvm.Cond.classLink "SofaDig" (76 : Nat) "SofaDig$Scanner") ∈ lw_all := lw_g (lw_at lw_m2 104 rfl) rfl
theorem q460 : (Jvm.Cond.instantiable "SofaDig$Scanner" (2 : Nat)) ∈ lw_all := lw_g (lw_at lw_m2 105 rfl) rfl
theorem q461 : (Jvm.Cond.methodLink "SofaDig" (78 : Nat) ({ cls := "SofaDig$Scanner", name := "<init>", desc := "(LSofaDig$Tape;)V" } : Jvm.MethodName)) ∈ lw_all := lw_g (lw_at lw_m2 106 rfl) rfl
theorem q462 : (Jvm.Cond.instanceMethod ({ cls := "SofaDig$Scanner", name := "<init>", desc := "(LSofaDig$Tape;)V" } : Jvm.MethodName)) ∈ lw_all := lw_g (lw_at lw_m2 107 rfl) rfl
theorem q474 : (Jvm.Cond.methodLink "SofaDig" (81 : Nat) ({ cls := "SofaDig$Scanner", name := "all", desc := "()Ljava/util/List;" } : Jvm.MethodName)) ∈ lw_all := lw_g (lw_at lw_m2 119 rfl) rfl
theorem q475 : (Jvm.Cond.instanceMethod ({ cls := "SofaDig$Scanner", name := "all", desc := "()Ljava/util/List;" } : Jvm.MethodName)) ∈ lw_all := lw_g (lw_at lw_m2 120 rfl) rfl
theorem q476 : (Jvm.Cond.selects "SofaDig$Scanner" ({ cls := "SofaDig$Scanner", name := "all", desc := "()Ljava/util/List;" } : Jvm.MethodName) ({ cls := "SofaDig$Scanner", name := "all", desc := "()Ljava/util/List;" } : Jvm.MethodName)) ∈ lw_all := lw_g (lw_at lw_m2 121 rfl) rfl
theorem q921 : (Jvm.Cond.methodLink "SofaDig" (85 : Nat) ({ cls := "SofaDig$Reader", name := "<init>", desc := "(Ljava/util/List;)V" } : Jvm.MethodName)) ∈ lw_all := lw_g (lw_at lw_m4 86 rfl) rfl
theorem q922 : (Jvm.Cond.instanceMethod ({ cls := "SofaDig$Reader", name := "<init>", desc := "(Ljava/util/List;)V" } : Jvm.MethodName)) ∈ lw_all := lw_g (lw_at lw_m4 87 rfl) rfl
theorem q978 : (Jvm.Cond.methodLink "SofaDig" (88 : Nat) ({ cls := "SofaDig$Reader", name := "read", desc := "()LSofaDig$Sofa;" } : Jvm.MethodName)) ∈ lw_all := lw_g (lw_at lw_m4 143 rfl) rfl
theorem q979 : (Jvm.Cond.instanceMethod ({ cls := "SofaDig$Reader", name := "read", desc := "()LSofaDig$Sofa;" } : Jvm.MethodName)) ∈ lw_all := lw_g (lw_at lw_m4 144 rfl) rfl
theorem q980 : (Jvm.Cond.selects "SofaDig$Reader" ({ cls := "SofaDig$Reader", name := "read", desc := "()LSofaDig$Sofa;" } : Jvm.MethodName) ({ cls := "SofaDig$Reader", name := "read", desc := "()LSofaDig$Sofa;" } : Jvm.MethodName)) ∈ lw_all := lw_g (lw_at lw_m4 145 rfl) rfl
theorem q1036 : (Jvm.Cond.castable "SofaDig$Fault" "SofaDig$Fault") ∈ lw_tbl := lw_at lw_m4 201 rfl
theorem q1051 : (Jvm.Cond.fieldLinkNest "SofaDig" (93 : Nat) "SofaDig$Fault" "error" "I" "SofaDig") ∈ lw_tbl := lw_at lw_m4 216 rfl
theorem q1053 : (Jvm.Cond.fieldLinkNest "SofaDig" (96 : Nat) "SofaDig$Fault" "at" "I" "SofaDig") ∈ lw_tbl := lw_at lw_m4 218 rfl
theorem q1838 : (Jvm.Cond.fieldLinkNest "SofaDig" (175 : Nat) "SofaDig$Find" "isCoin" "Z" "SofaDig") ∈ lw_tbl := lw_at lw_m8 43 rfl
theorem q1841 : (Jvm.Cond.fieldLinkNest "SofaDig" (186 : Nat) "SofaDig$Find" "told" "I" "SofaDig") ∈ lw_tbl := lw_at lw_m8 46 rfl
theorem q1844 : (Jvm.Cond.fieldLinkNest "SofaDig" (185 : Nat) "SofaDig$Find" "stratum" "I" "SofaDig") ∈ lw_tbl := lw_at lw_m8 49 rfl
theorem q2091 : (Jvm.Cond.code ({ cls := "SofaDig", name := "errorAt", desc := "()I" } : Jvm.MethodName) prog_1_method_10_code (1 : Nat) (Option.some Jvm.ClassFile.FieldType.int)) ∈ lw_all := lw_g (lw_at lw_m9 56 rfl) rfl
theorem q2093 : (Jvm.Cond.instanceMethod ({ cls := "SofaDig", name := "seats", desc := "()I" } : Jvm.MethodName)) ∈ lw_all := lw_g (lw_at lw_m9 58 rfl) rfl
theorem q2094 : (Jvm.Cond.selects "SofaDig" ({ cls := "SofaDig", name := "seats", desc := "()I" } : Jvm.MethodName) ({ cls := "SofaDig", name := "seats", desc := "()I" } : Jvm.MethodName)) ∈ lw_all := lw_g (lw_at lw_m9 59 rfl) rfl
theorem q2095 : (Jvm.Cond.code ({ cls := "SofaDig", name := "seats", desc := "()I" } : Jvm.MethodName) prog_1_method_15_code (1 : Nat) (Option.some Jvm.ClassFile.FieldType.int)) ∈ lw_all := lw_g (lw_at lw_m9 60 rfl) rfl
theorem q2097 : (Jvm.Cond.instanceMethod ({ cls := "SofaDig", name := "strata", desc := "()I" } : Jvm.MethodName)) ∈ lw_all := lw_g (lw_at lw_m9 62 rfl) rfl
theorem q2098 : (Jvm.Cond.selects "SofaDig" ({ cls := "SofaDig", name := "strata", desc := "()I" } : Jvm.MethodName) ({ cls := "SofaDig", name := "strata", desc := "()I" } : Jvm.MethodName)) ∈ lw_all := lw_g (lw_at lw_m9 63 rfl) rfl
theorem q2099 : (Jvm.Cond.code ({ cls := "SofaDig", name := "strata", desc := "()I" } : Jvm.MethodName) prog_1_method_16_code (1 : Nat) (Option.some Jvm.ClassFile.FieldType.int)) ∈ lw_all := lw_g (lw_at lw_m9 64 rfl) rfl
theorem q2101 : (Jvm.Cond.instanceMethod ({ cls := "SofaDig", name := "finds", desc := "()I" } : Jvm.MethodName)) ∈ lw_all := lw_g (lw_at lw_m9 66 rfl) rfl
theorem q2102 : (Jvm.Cond.selects "SofaDig" ({ cls := "SofaDig", name := "finds", desc := "()I" } : Jvm.MethodName) ({ cls := "SofaDig", name := "finds", desc := "()I" } : Jvm.MethodName)) ∈ lw_all := lw_g (lw_at lw_m9 67 rfl) rfl
theorem q2103 : (Jvm.Cond.code ({ cls := "SofaDig", name := "finds", desc := "()I" } : Jvm.MethodName) prog_1_method_17_code (1 : Nat) (Option.some Jvm.ClassFile.FieldType.int)) ∈ lw_all := lw_g (lw_at lw_m9 68 rfl) rfl
theorem q2104 : (Jvm.Cond.methodLink "SofaDig" (118 : Nat) ({ cls := "java/util/ArrayList", name := "size", desc := "()I" } : Jvm.MethodName)) ∈ lw_all := lw_g (lw_at lw_m9 69 rfl) rfl
theorem q2106 : (Jvm.Cond.instanceMethod ({ cls := "SofaDig", name := "days", desc := "()I" } : Jvm.MethodName)) ∈ lw_all := lw_g (lw_at lw_m9 71 rfl) rfl
theorem q2107 : (Jvm.Cond.selects "SofaDig" ({ cls := "SofaDig", name := "days", desc := "()I" } : Jvm.MethodName) ({ cls := "SofaDig", name := "days", desc := "()I" } : Jvm.MethodName)) ∈ lw_all := lw_g (lw_at lw_m9 72 rfl) rfl
theorem q2108 : (Jvm.Cond.code ({ cls := "SofaDig", name := "days", desc := "()I" } : Jvm.MethodName) prog_1_method_18_code (1 : Nat) (Option.some Jvm.ClassFile.FieldType.int)) ∈ lw_all := lw_g (lw_at lw_m9 73 rfl) rfl
theorem q2110 : (Jvm.Cond.instanceMethod ({ cls := "SofaDig", name := "ordersCarriedOut", desc := "()I" } : Jvm.MethodName)) ∈ lw_all := lw_g (lw_at lw_m9 75 rfl) rfl
theorem q2111 : (Jvm.Cond.selects "SofaDig" ({ cls := "SofaDig", name := "ordersCarriedOut", desc := "()I" } : Jvm.MethodName) ({ cls := "SofaDig", name := "ordersCarriedOut", desc := "()I" } : Jvm.MethodName)) ∈ lw_all := lw_g (lw_at lw_m9 76 rfl) rfl
theorem q2112 : (Jvm.Cond.code ({ cls := "SofaDig", name := "ordersCarriedOut", desc := "()I" } : Jvm.MethodName) prog_1_method_19_code (1 : Nat) (Option.some Jvm.ClassFile.FieldType.int)) ∈ lw_all := lw_g (lw_at lw_m9 77 rfl) rfl
theorem q2114 : (Jvm.Cond.instanceMethod ({ cls := "SofaDig", name := "cushionsDug", desc := "()I" } : Jvm.MethodName)) ∈ lw_all := lw_g (lw_at lw_m9 79 rfl) rfl
theorem q2115 : (Jvm.Cond.selects "SofaDig" ({ cls := "SofaDig", name := "cushionsDug", desc := "()I" } : Jvm.MethodName) ({ cls := "SofaDig", name := "cushionsDug", desc := "()I" } : Jvm.MethodName)) ∈ lw_all := lw_g (lw_at lw_m9 80 rfl) rfl
theorem q2116 : (Jvm.Cond.code ({ cls := "SofaDig", name := "cushionsDug", desc := "()I" } : Jvm.MethodName) prog_1_method_20_code (1 : Nat) (Option.some Jvm.ClassFile.FieldType.int)) ∈ lw_all := lw_g (lw_at lw_m9 81 rfl) rfl
theorem q2118 : (Jvm.Cond.instanceMethod ({ cls := "SofaDig", name := "slides", desc := "()I" } : Jvm.MethodName)) ∈ lw_all := lw_g (lw_at lw_m9 83 rfl) rfl
theorem q2119 : (Jvm.Cond.selects "SofaDig" ({ cls := "SofaDig", name := "slides", desc := "()I" } : Jvm.MethodName) ({ cls := "SofaDig", name := "slides", desc := "()I" } : Jvm.MethodName)) ∈ lw_all := lw_g (lw_at lw_m9 84 rfl) rfl
theorem q2120 : (Jvm.Cond.code ({ cls := "SofaDig", name := "slides", desc := "()I" } : Jvm.MethodName) prog_1_method_21_code (1 : Nat) (Option.some Jvm.ClassFile.FieldType.int)) ∈ lw_all := lw_g (lw_at lw_m9 85 rfl) rfl
theorem q2122 : (Jvm.Cond.instanceMethod ({ cls := "SofaDig", name := "found", desc := "()I" } : Jvm.MethodName)) ∈ lw_all := lw_g (lw_at lw_m9 87 rfl) rfl
theorem q2123 : (Jvm.Cond.selects "SofaDig" ({ cls := "SofaDig", name := "found", desc := "()I" } : Jvm.MethodName) ({ cls := "SofaDig", name := "found", desc := "()I" } : Jvm.MethodName)) ∈ lw_all := lw_g (lw_at lw_m9 88 rfl) rfl
theorem q2124 : (Jvm.Cond.code ({ cls := "SofaDig", name := "found", desc := "()I" } : Jvm.MethodName) prog_1_method_22_code (1 : Nat) (Option.some Jvm.ClassFile.FieldType.int)) ∈ lw_all := lw_g (lw_at lw_m9 89 rfl) rfl
theorem q2125 : (Jvm.Cond.methodLink "SofaDig" (133 : Nat) ({ cls := "SofaDig$Sofa", name := "found", desc := "()I" } : Jvm.MethodName)) ∈ lw_all := lw_g (lw_at lw_m9 90 rfl) rfl
theorem q2131 : (Jvm.Cond.instanceMethod ({ cls := "SofaDig", name := "sureFinds", desc := "()I" } : Jvm.MethodName)) ∈ lw_all := lw_g (lw_at lw_m9 96 rfl) rfl
theorem q2132 : (Jvm.Cond.selects "SofaDig" ({ cls := "SofaDig", name := "sureFinds", desc := "()I" } : Jvm.MethodName) ({ cls := "SofaDig", name := "sureFinds", desc := "()I" } : Jvm.MethodName)) ∈ lw_all := lw_g (lw_at lw_m9 97 rfl) rfl
theorem q2133 : (Jvm.Cond.code ({ cls := "SofaDig", name := "sureFinds", desc := "()I" } : Jvm.MethodName) prog_1_method_23_code (1 : Nat) (Option.some Jvm.ClassFile.FieldType.int)) ∈ lw_all := lw_g (lw_at lw_m9 98 rfl) rfl
theorem q2134 : (Jvm.Cond.methodLink "SofaDig" (136 : Nat) ({ cls := "SofaDig$Sofa", name := "sure", desc := "()I" } : Jvm.MethodName)) ∈ lw_all := lw_g (lw_at lw_m9 99 rfl) rfl
theorem q2135 : (Jvm.Cond.instanceMethod ({ cls := "SofaDig$Sofa", name := "sure", desc := "()I" } : Jvm.MethodName)) ∈ lw_all := lw_g (lw_at lw_m9 100 rfl) rfl
theorem q2136 : (Jvm.Cond.selects "SofaDig$Sofa" ({ cls := "SofaDig$Sofa", name := "sure", desc := "()I" } : Jvm.MethodName) ({ cls := "SofaDig$Sofa", name := "sure", desc := "()I" } : Jvm.MethodName)) ∈ lw_all := lw_g (lw_at lw_m9 101 rfl) rfl
theorem q2141 : (Jvm.Cond.code ({ cls := "SofaDig", name := "props", desc := "()I" } : Jvm.MethodName) prog_1_method_24_code (1 : Nat) (Option.some Jvm.ClassFile.FieldType.int)) ∈ lw_all := lw_g (lw_at lw_m9 106 rfl) rfl
theorem q2142 : (Jvm.Cond.methodLink "SofaDig" (139 : Nat) ({ cls := "SofaDig$Sofa", name := "props", desc := "()I" } : Jvm.MethodName)) ∈ lw_all := lw_g (lw_at lw_m9 107 rfl) rfl
theorem q2151 : (Jvm.Cond.instanceMethod ({ cls := "SofaDig", name := "bestDig", desc := "()I" } : Jvm.MethodName)) ∈ lw_all := lw_g (lw_at lw_m9 116 rfl) rfl
theorem q2152 : (Jvm.Cond.selects "SofaDig" ({ cls := "SofaDig", name := "bestDig", desc := "()I" } : Jvm.MethodName) ({ cls := "SofaDig", name := "bestDig", desc := "()I" } : Jvm.MethodName)) ∈ lw_all := lw_g (lw_at lw_m9 117 rfl) rfl
theorem q2153 : (Jvm.Cond.code ({ cls := "SofaDig", name := "bestDig", desc := "()I" } : Jvm.MethodName) prog_1_method_49_code (5 : Nat) (Option.some Jvm.ClassFile.FieldType.int)) ∈ lw_all := lw_g (lw_at lw_m9 118 rfl) rfl
theorem q2154 : (Jvm.Cond.methodLink "SofaDig" (102 : Nat) ({ cls := "SofaDig$Sofa", name := "height", desc := "(I)I" } : Jvm.MethodName)) ∈ lw_all := lw_g (lw_at lw_m9 119 rfl) rfl
theorem q2159 : (Jvm.Cond.methodLink "SofaDig" (224 : Nat) ({ cls := "SofaDig", name := "slidesBy", desc := "(I)I" } : Jvm.MethodName)) ∈ lw_all := lw_g (lw_at lw_m9 124 rfl) rfl
theorem q2161 : (Jvm.Cond.instanceMethod ({ cls := "SofaDig", name := "slidesBy", desc := "(I)I" } : Jvm.MethodName)) ∈ lw_all := lw_g (lw_at lw_m9 126 rfl) rfl
theorem q2162 : (Jvm.Cond.code ({ cls := "SofaDig", name := "slidesBy", desc := "(I)I" } : Jvm.MethodName) prog_1_method_47_code (2 : Nat) (Option.some Jvm.ClassFile.FieldType.int)) ∈ lw_all := lw_g (lw_at lw_m9 127 rfl) rfl
theorem q2163 : (Jvm.Cond.methodLink "SofaDig" (220 : Nat) ({ cls := "SofaDig$Sofa", name := "take", desc := "(LSofaDig$Sofa;)LSofaDig$Sofa;" } : Jvm.MethodName)) ∈ lw_all := lw_g (lw_at lw_m9 128 rfl) rfl
theorem q2164 : (Jvm.Cond.instanceMethod ({ cls := "SofaDig$Sofa", name := "take", desc := "(LSofaDig$Sofa;)LSofaDig$Sofa;" } : Jvm.MethodName)) ∈ lw_all := lw_g (lw_at lw_m9 129 rfl) rfl
theorem q2165 : (Jvm.Cond.selects "SofaDig$Sofa" ({ cls := "SofaDig$Sofa", name := "take", desc := "(LSofaDig$Sofa;)LSofaDig$Sofa;" } : Jvm.MethodName) ({ cls := "SofaDig$Sofa", name := "take", desc := "(LSofaDig$Sofa;)LSofaDig$Sofa;" } : Jvm.MethodName)) ∈ lw_all := lw_g (lw_at lw_m9 130 rfl) rfl
theorem q2235 : (Jvm.Cond.methodLink "SofaDig" (207 : Nat) ({ cls := "SofaDig$Sofa", name := "dig", desc := "(I)I" } : Jvm.MethodName)) ∈ lw_all := lw_g (lw_at lw_m9 200 rfl) rfl
theorem q2264 : (Jvm.Cond.methodLink "SofaDig" (168 : Nat) ({ cls := "SofaDig$Sofa", name := "left", desc := "(I)I" } : Jvm.MethodName)) ∈ lw_all := lw_g (lw_at lw_m9 229 rfl) rfl
theorem q2265 : (Jvm.Cond.instanceMethod ({ cls := "SofaDig$Sofa", name := "left", desc := "(I)I" } : Jvm.MethodName)) ∈ lw_all := lw_g (lw_at lw_m9 230 rfl) rfl
theorem q2266 : (Jvm.Cond.selects "SofaDig$Sofa" ({ cls := "SofaDig$Sofa", name := "left", desc := "(I)I" } : Jvm.MethodName) ({ cls := "SofaDig$Sofa", name := "left", desc := "(I)I" } : Jvm.MethodName)) ∈ lw_all := lw_g (lw_at lw_m9 231 rfl) rfl
theorem q2271 : (Jvm.Cond.code ({ cls := "SofaDig", name := "meanYear", desc := "()D" } : Jvm.MethodName) prog_1_method_50_code (1 : Nat) (Option.some Jvm.ClassFile.FieldType.double)) ∈ lw_all := lw_g (lw_at lw_m9 236 rfl) rfl
theorem q2272 : (Jvm.Cond.methodLink "SofaDig" (227 : Nat) ({ cls := "SofaDig$Sofa", name := "meanYear", desc := "()D" } : Jvm.MethodName)) ∈ lw_all := lw_g (lw_at lw_m9 237 rfl) rfl
theorem q2273 : (Jvm.Cond.instanceMethod ({ cls := "SofaDig$Sofa", name := "meanYear", desc := "()D" } : Jvm.MethodName)) ∈ lw_all := lw_g (lw_at lw_m9 238 rfl) rfl
theorem q2274 : (Jvm.Cond.selects "SofaDig$Sofa" ({ cls := "SofaDig$Sofa", name := "meanYear", desc := "()D" } : Jvm.MethodName) ({ cls := "SofaDig$Sofa", name := "meanYear", desc := "()D" } : Jvm.MethodName)) ∈ lw_all := lw_g (lw_at lw_m9 239 rfl) rfl
theorem q2280 : (Jvm.Cond.code ({ cls := "SofaDig", name := "digest", desc := "()J" } : Jvm.MethodName) prog_1_method_52_code (8 : Nat) (Option.some Jvm.ClassFile.FieldType.long)) ∈ lw_all := lw_g (lw_at lw_m10 5 rfl) rfl
theorem q2281 : (Jvm.Cond.constantLong "SofaDig" (231 : Nat) (1021 : Int64)) ∈ lw_all := lw_g (lw_at lw_m10 6 rfl) rfl
theorem q2282 : (Jvm.Cond.methodLink "SofaDig" (233 : Nat) ({ cls := "SofaDig", name := "seats", desc := "()I" } : Jvm.MethodName)) ∈ lw_all := lw_g (lw_at lw_m10 7 rfl) rfl
theorem q2283 : (Jvm.Cond.methodLink "SofaDig" (235 : Nat) ({ cls := "SofaDig", name := "strata", desc := "()I" } : Jvm.MethodName)) ∈ lw_all := lw_g (lw_at lw_m10 8 rfl) rfl
theorem q2284 : (Jvm.Cond.methodLink "SofaDig" (237 : Nat) ({ cls := "SofaDig", name := "finds", desc := "()I" } : Jvm.MethodName)) ∈ lw_all := lw_g (lw_at lw_m10 9 rfl) rfl
theorem q2285 : (Jvm.Cond.methodLink "SofaDig" (239 : Nat) ({ cls := "SofaDig", name := "days", desc := "()I" } : Jvm.MethodName)) ∈ lw_all := lw_g (lw_at lw_m10 10 rfl) rfl
theorem q2286 : (Jvm.Cond.methodLink "SofaDig" (242 : Nat) ({ cls := "SofaDig", name := "ordersCarriedOut", desc := "()I" } : Jvm.MethodName)) ∈ lw_all := lw_g (lw_at lw_m10 11 rfl) rfl
theorem q2287 : (Jvm.Cond.methodLink "SofaDig" (245 : Nat) ({ cls := "SofaDig", name := "cushionsDug", desc := "()I" } : Jvm.MethodName)) ∈ lw_all := lw_g (lw_at lw_m10 12 rfl) rfl
theorem q2288 : (Jvm.Cond.methodLink "SofaDig" (248 : Nat) ({ cls := "SofaDig", name := "slides", desc := "()I" } : Jvm.MethodName)) ∈ lw_all := lw_g (lw_at lw_m10 13 rfl) rfl
theorem q2289 : (Jvm.Cond.methodLink "SofaDig" (250 : Nat) ({ cls := "SofaDig", name := "found", desc := "()I" } : Jvm.MethodName)) ∈ lw_all := lw_g (lw_at lw_m10 14 rfl) rfl
theorem q2290 : (Jvm.Cond.methodLink "SofaDig" (251 : Nat) ({ cls := "SofaDig", name := "sureFinds", desc := "()I" } : Jvm.MethodName)) ∈ lw_all := lw_g (lw_at lw_m10 15 rfl) rfl
theorem q2291 : (Jvm.Cond.methodLink "SofaDig" (254 : Nat) ({ cls := "SofaDig", name := "bestDig", desc := "()I" } : Jvm.MethodName)) ∈ lw_all := lw_g (lw_at lw_m10 16 rfl) rfl
theorem q2292 : (Jvm.Cond.constantLong "SofaDig" (257 : Nat) (31 : Int64)) ∈ lw_all := lw_g (lw_at lw_m10 17 rfl) rfl
theorem q2293 : (Jvm.Cond.methodLink "SofaDig" (145 : Nat) ({ cls := "SofaDig$Sofa", name := "isPropped", desc := "(I)Z" } : Jvm.MethodName)) ∈ lw_all := lw_g (lw_at lw_m10 18 rfl) rfl
theorem q2294 : (Jvm.Cond.methodLink "SofaDig" (259 : Nat) ({ cls := "SofaDig", name := "one", desc := "(Z)I" } : Jvm.MethodName)) ∈ lw_all := lw_g (lw_at lw_m10 19 rfl) rfl
theorem q2295 : (Jvm.Cond.static ({ cls := "SofaDig", name := "one", desc := "(Z)I" } : Jvm.MethodName)) ∈ lw_all := lw_g (lw_at lw_m10 20 rfl) rfl
theorem q2296 : (Jvm.Cond.code ({ cls := "SofaDig", name := "one", desc := "(Z)I" } : Jvm.MethodName) prog_1_method_51_code (1 : Nat) (Option.some Jvm.ClassFile.FieldType.int)) ∈ lw_all := lw_g (lw_at lw_m10 21 rfl) rfl
theorem q2297 : (Jvm.Cond.methodLink "SofaDig" (152 : Nat) ({ cls := "SofaDig$Sofa", name := "top", desc := "(I)LSofaDig$Cushion;" } : Jvm.MethodName)) ∈ lw_all := lw_g (lw_at lw_m10 22 rfl) rfl
theorem q2298 : (Jvm.Cond.methodLink "SofaDig" (194 : Nat) ({ cls := "SofaDig$Sofa", name := "notBefore", desc := "(I)I" } : Jvm.MethodName)) ∈ lw_all := lw_g (lw_at lw_m10 23 rfl) rfl
theorem q2299 : (Jvm.Cond.instanceMethod ({ cls := "SofaDig$Sofa", name := "notBefore", desc := "(I)I" } : Jvm.MethodName)) ∈ lw_all := lw_g (lw_at lw_m10 24 rfl) rfl
theorem q2300 : (Jvm.Cond.selects "SofaDig$Sofa" ({ cls := "SofaDig$Sofa", name := "notBefore", desc := "(I)I" } : Jvm.MethodName) ({ cls := "SofaDig$Sofa", name := "notBefore", desc := "(I)I" } : Jvm.MethodName)) ∈ lw_all := lw_g (lw_at lw_m10 25 rfl) rfl
theorem q2304 : (Jvm.Cond.methodLink "SofaDig" (204 : Nat) ({ cls := "SofaDig$Sofa", name := "isMixed", desc := "(I)Z" } : Jvm.MethodName)) ∈ lw_all := lw_g (lw_at lw_m10 29 rfl) rfl
theorem q2305 : (Jvm.Cond.instanceMethod ({ cls := "SofaDig$Sofa", name := "isMixed", desc := "(I)Z" } : Jvm.MethodName)) ∈ lw_all := lw_g (lw_at lw_m10 30 rfl) rfl
theorem q2306 : (Jvm.Cond.selects "SofaDig$Sofa" ({ cls := "SofaDig$Sofa", name := "isMixed", desc := "(I)Z" } : Jvm.MethodName) ({ cls := "SofaDig$Sofa", name := "isMixed", desc := "(I)Z" } : Jvm.MethodName)) ∈ lw_all := lw_g (lw_at lw_m10 31 rfl) rfl
theorem q2319 : (Jvm.Cond.code ({ cls := "SofaDig", name := "feed", desc := "(IIIII)I" } : Jvm.MethodName) prog_1_method_7_code (6 : Nat) (Option.some Jvm.ClassFile.FieldType.int)) ∈ lw_all := lw_g (lw_at lw_m10 44 rfl) rfl
theorem q2320 : (Jvm.Cond.methodLink "SofaDig" (63 : Nat) ({ cls := "SofaDig", name := "requireState", desc := "(Z)V" } : Jvm.MethodName)) ∈ lw_all := lw_g (lw_at lw_m10 45 rfl) rfl
theorem q2321 : (Jvm.Cond.static ({ cls := "SofaDig", name := "requireState", desc := "(Z)V" } : Jvm.MethodName)) ∈ lw_all := lw_g (lw_at lw_m10 46 rfl) rfl
theorem q2322 : (Jvm.Cond.code ({ cls := "SofaDig", name := "requireState", desc := "(Z)V" } : Jvm.MethodName) prog_1_method_2_code (1 : Nat) (Option.none : Option Jvm.ClassFile.FieldType)) ∈ lw_all := lw_g (lw_at lw_m10 47 rfl) rfl
theorem q2323 : (Jvm.Cond.classLink "SofaDig" (7 : Nat) "java/lang/IllegalStateException") ∈ lw_all := lw_g (lw_at lw_m10 48 rfl) rfl
theorem q2341 : (Jvm.Cond.methodLink "SofaDig" (66 : Nat) ({ cls := "SofaDig$Tape", name := "put", desc := "(I)V" } : Jvm.MethodName)) ∈ lw_all := lw_g (lw_at lw_m10 66 rfl) rfl
theorem q2342 : (Jvm.Cond.instanceMethod ({ cls := "SofaDig$Tape", name := "put", desc := "(I)V" } : Jvm.MethodName)) ∈ lw_all := lw_g (lw_at lw_m10 67 rfl) rfl
theorem q2343 : (Jvm.Cond.selects "SofaDig$Tape" ({ cls := "SofaDig$Tape", name := "put", desc := "(I)V" } : Jvm.MethodName) ({ cls := "SofaDig$Tape", name := "put", desc := "(I)V" } : Jvm.MethodName)) ∈ lw_all := lw_g (lw_at lw_m10 68 rfl) rfl
theorem q2352 : (Jvm.Cond.code ({ cls := "SofaDig", name := "trim", desc := "(I)I" } : Jvm.MethodName) prog_1_method_8_code (2 : Nat) (Option.some Jvm.ClassFile.FieldType.int)) ∈ lw_all := lw_g (lw_at lw_m10 77 rfl) rfl
theorem q2353 : (Jvm.Cond.methodLink "SofaDig" (70 : Nat) ({ cls := "SofaDig", name := "requireFrom", desc := "(III)V" } : Jvm.MethodName)) ∈ lw_all := lw_g (lw_at lw_m10 78 rfl) rfl
theorem q2354 : (Jvm.Cond.static ({ cls := "SofaDig", name := "requireFrom", desc := "(III)V" } : Jvm.MethodName)) ∈ lw_all := lw_g (lw_at lw_m10 79 rfl) rfl
theorem q2355 : (Jvm.Cond.code ({ cls := "SofaDig", name := "requireFrom", desc := "(III)V" } : Jvm.MethodName) prog_1_method_4_code (3 : Nat) (Option.none : Option Jvm.ClassFile.FieldType)) ∈ lw_all := lw_g (lw_at lw_m10 80 rfl) rfl
theorem q2356 : (Jvm.Cond.methodLink "SofaDig" (13 : Nat) ({ cls := "SofaDig", name := "require", desc := "(Z)V" } : Jvm.MethodName)) ∈ lw_all := lw_g (lw_at lw_m10 81 rfl) rfl
theorem q2357 : (Jvm.Cond.static ({ cls := "SofaDig", name := "require", desc := "(Z)V" } : Jvm.MethodName)) ∈ lw_all := lw_g (lw_at lw_m10 82 rfl) rfl
theorem q2358 : (Jvm.Cond.code ({ cls := "SofaDig", name := "require", desc := "(Z)V" } : Jvm.MethodName) prog_1_method_1_code (1 : Nat) (Option.none : Option Jvm.ClassFile.FieldType)) ∈ lw_all := lw_g (lw_at lw_m10 83 rfl) rfl
theorem q2359 : (Jvm.Cond.classLink "SofaDig" (1 : Nat) "java/lang/IllegalArgumentException") ∈ lw_all := lw_g (lw_at lw_m10 84 rfl) rfl
theorem q2389 : (Jvm.Cond.code ({ cls := "SofaDig", name := "heightOf", desc := "(I)I" } : Jvm.MethodName) prog_1_method_25_code (2 : Nat) (Option.some Jvm.ClassFile.FieldType.int)) ∈ lw_all := lw_g (lw_at lw_m10 114 rfl) rfl
theorem q2390 : (Jvm.Cond.methodLink "SofaDig" (142 : Nat) ({ cls := "SofaDig", name := "seat", desc := "(I)I" } : Jvm.MethodName)) ∈ lw_all := lw_g (lw_at lw_m10 115 rfl) rfl
theorem q2392 : (Jvm.Cond.instanceMethod ({ cls := "SofaDig", name := "seat", desc := "(I)I" } : Jvm.MethodName)) ∈ lw_all := lw_g (lw_at lw_m10 117 rfl) rfl
theorem q2393 : (Jvm.Cond.code ({ cls := "SofaDig", name := "seat", desc := "(I)I" } : Jvm.MethodName) prog_1_method_11_code (2 : Nat) (Option.some Jvm.ClassFile.FieldType.int)) ∈ lw_all := lw_g (lw_at lw_m10 118 rfl) rfl
theorem q2394 : (Jvm.Cond.methodLink "SofaDig" (25 : Nat) ({ cls := "SofaDig", name := "requireIndex", desc := "(II)V" } : Jvm.MethodName)) ∈ lw_all := lw_g (lw_at lw_m10 119 rfl) rfl
theorem q2395 : (Jvm.Cond.static ({ cls := "SofaDig", name := "requireIndex", desc := "(II)V" } : Jvm.MethodName)) ∈ lw_all := lw_g (lw_at lw_m10 120 rfl) rfl
theorem q2396 : (Jvm.Cond.code ({ cls := "SofaDig", name := "requireIndex", desc := "(II)V" } : Jvm.MethodName) prog_1_method_3_code (2 : Nat) (Option.none : Option Jvm.ClassFile.FieldType)) ∈ lw_all := lw_g (lw_at lw_m10 121 rfl) rfl
theorem q2397 : (Jvm.Cond.classLink "SofaDig" (10 : Nat) "java/lang/IndexOutOfBoundsException") ∈ lw_all := lw_g (lw_at lw_m10 122 rfl) rfl
theorem q2416 : (Jvm.Cond.instanceMethod ({ cls := "SofaDig", name := "isPropped", desc := "(I)Z" } : Jvm.MethodName)) ∈ lw_all := lw_g (lw_at lw_m10 141 rfl) rfl
theorem q2417 : (Jvm.Cond.selects "SofaDig" ({ cls := "SofaDig", name := "isPropped", desc := "(I)Z" } : Jvm.MethodName) ({ cls := "SofaDig", name := "isPropped", desc := "(I)Z" } : Jvm.MethodName)) ∈ lw_all := lw_g (lw_at lw_m10 142 rfl) rfl
theorem q2418 : (Jvm.Cond.code ({ cls := "SofaDig", name := "isPropped", desc := "(I)Z" } : Jvm.MethodName) prog_1_method_26_code (2 : Nat) (Option.some Jvm.ClassFile.FieldType.boolean)) ∈ lw_all := lw_g (lw_at lw_m10 143 rfl) rfl
theorem q2425 : (Jvm.Cond.code ({ cls := "SofaDig", name := "topStratum", desc := "(I)I" } : Jvm.MethodName) prog_1_method_27_code (2 : Nat) (Option.some Jvm.ClassFile.FieldType.int)) ∈ lw_all := lw_g (lw_at lw_m10 150 rfl) rfl
theorem q2426 : (Jvm.Cond.methodLink "SofaDig" (149 : Nat) ({ cls := "SofaDig", name := "stacked", desc := "(I)I" } : Jvm.MethodName)) ∈ lw_all := lw_g (lw_at lw_m10 151 rfl) rfl
theorem q2428 : (Jvm.Cond.instanceMethod ({ cls := "SofaDig", name := "stacked", desc := "(I)I" } : Jvm.MethodName)) ∈ lw_all := lw_g (lw_at lw_m10 153 rfl) rfl
theorem q2429 : (Jvm.Cond.code ({ cls := "SofaDig", name := "stacked", desc := "(I)I" } : Jvm.MethodName) prog_1_method_12_code (2 : Nat) (Option.some Jvm.ClassFile.FieldType.int)) ∈ lw_all := lw_g (lw_at lw_m10 154 rfl) rfl
theorem q2436 : (Jvm.Cond.code ({ cls := "SofaDig", name := "isTopLoose", desc := "(I)Z" } : Jvm.MethodName) prog_1_method_28_code (2 : Nat) (Option.some Jvm.ClassFile.FieldType.boolean)) ∈ lw_all := lw_g (lw_at lw_m10 161 rfl) rfl
theorem q2443 : (Jvm.Cond.code ({ cls := "SofaDig", name := "hasTopSpring", desc := "(I)Z" } : Jvm.MethodName) prog_1_method_29_code (2 : Nat) (Option.some Jvm.ClassFile.FieldType.boolean)) ∈ lw_all := lw_g (lw_at lw_m10 168 rfl) rfl
theorem q2450 : (Jvm.Cond.code ({ cls := "SofaDig", name := "findsLeft", desc := "(I)I" } : Jvm.MethodName) prog_1_method_30_code (2 : Nat) (Option.some Jvm.ClassFile.FieldType.int)) ∈ lw_all := lw_g (lw_at lw_m10 175 rfl) rfl
theorem q2457 : (Jvm.Cond.code ({ cls := "SofaDig", name := "isCoin", desc := "(I)Z" } : Jvm.MethodName) prog_1_method_31_code (2 : Nat) (Option.some Jvm.ClassFile.FieldType.boolean)) ∈ lw_all := lw_g (lw_at lw_m10 182 rfl) rfl
theorem q2458 : (Jvm.Cond.methodLink "SofaDig" (171 : Nat) ({ cls := "SofaDig", name := "find", desc := "(I)LSofaDig$Find;" } : Jvm.MethodName)) ∈ lw_all := lw_g (lw_at lw_m10 183 rfl) rfl
theorem q2460 : (Jvm.Cond.instanceMethod ({ cls := "SofaDig", name := "find", desc := "(I)LSofaDig$Find;" } : Jvm.MethodName)) ∈ lw_all := lw_g (lw_at lw_m10 185 rfl) rfl
theorem q2461 : (Jvm.Cond.code ({ cls := "SofaDig", name := "find", desc := "(I)LSofaDig$Find;" } : Jvm.MethodName) prog_1_method_14_code (2 : Nat) (Option.some (Jvm.ClassFile.FieldType.object "SofaDig$Find"))) ∈ lw_all := lw_g (lw_at lw_m10 186 rfl) rfl
theorem q2462 : (Jvm.Cond.methodLink "SofaDig" (113 : Nat) ({ cls := "SofaDig", name := "at", desc := "(Ljava/util/List;I)Ljava/lang/Object;" } : Jvm.MethodName)) ∈ lw_all := lw_g (lw_at lw_m10 187 rfl) rfl
theorem q2463 : (Jvm.Cond.static ({ cls := "SofaDig", name := "at", desc := "(Ljava/util/List;I)Ljava/lang/Object;" } : Jvm.MethodName)) ∈ lw_all := lw_g (lw_at lw_m10 188 rfl) rfl
theorem q2464 : (Jvm.Cond.code ({ cls := "SofaDig", name := "at", desc := "(Ljava/util/List;I)Ljava/lang/Object;" } : Jvm.MethodName) prog_1_method_5_code (2 : Nat) (Option.some (Jvm.ClassFile.FieldType.object "java/lang/Object"))) ∈ lw_all := lw_g (lw_at lw_m10 189 rfl) rfl
theorem q2466 : (Jvm.Cond.methodLink "SofaDig" (19 : Nat) ({ cls := "java/util/List", name := "size", desc := "()I" } : Jvm.MethodName)) ∈ lw_all := lw_g (lw_at lw_m10 191 rfl) rfl
theorem q2469 : (Jvm.Cond.selects "java/util/ArrayList" ({ cls := "java/util/List", name := "size", desc := "()I" } : Jvm.MethodName) ({ cls := "java/util/ArrayList", name := "size", desc := "()I" } : Jvm.MethodName)) ∈ lw_all := lw_g (lw_at lw_m10 194 rfl) rfl
theorem q2473 : (Jvm.Cond.methodLink "SofaDig" (29 : Nat) ({ cls := "java/util/List", name := "get", desc := "(I)Ljava/lang/Object;" } : Jvm.MethodName)) ∈ lw_all := lw_g (lw_at lw_m10 198 rfl) rfl
theorem q2474 : (Jvm.Cond.classLink "SofaDig" (116 : Nat) "SofaDig$Find") ∈ lw_all := lw_g (lw_at lw_m10 199 rfl) rfl
theorem q2479 : (Jvm.Cond.instanceMethod ({ cls := "SofaDig", name := "isFound", desc := "(I)Z" } : Jvm.MethodName)) ∈ lw_all := lw_g (lw_at lw_m10 204 rfl) rfl
theorem q2480 : (Jvm.Cond.selects "SofaDig" ({ cls := "SofaDig", name := "isFound", desc := "(I)Z" } : Jvm.MethodName) ({ cls := "SofaDig", name := "isFound", desc := "(I)Z" } : Jvm.MethodName)) ∈ lw_all := lw_g (lw_at lw_m10 205 rfl) rfl
theorem q2481 : (Jvm.Cond.code ({ cls := "SofaDig", name := "isFound", desc := "(I)Z" } : Jvm.MethodName) prog_1_method_32_code (2 : Nat) (Option.some Jvm.ClassFile.FieldType.boolean)) ∈ lw_all := lw_g (lw_at lw_m10 206 rfl) rfl
theorem q2488 : (Jvm.Cond.code ({ cls := "SofaDig", name := "isSure", desc := "(I)Z" } : Jvm.MethodName) prog_1_method_33_code (2 : Nat) (Option.some Jvm.ClassFile.FieldType.boolean)) ∈ lw_all := lw_g (lw_at lw_m10 213 rfl) rfl
theorem q2489 : (Jvm.Cond.methodLink "SofaDig" (182 : Nat) ({ cls := "SofaDig", name := "isFound", desc := "(I)Z" } : Jvm.MethodName)) ∈ lw_all := lw_g (lw_at lw_m10 214 rfl) rfl
theorem q2496 : (Jvm.Cond.code ({ cls := "SofaDig", name := "stratumOf", desc := "(I)I" } : Jvm.MethodName) prog_1_method_34_code (2 : Nat) (Option.some Jvm.ClassFile.FieldType.int)) ∈ lw_all := lw_g (lw_at lw_m10 221 rfl) rfl
theorem q2503 : (Jvm.Cond.code ({ cls := "SofaDig", name := "yearOf", desc := "(I)I" } : Jvm.MethodName) prog_1_method_35_code (2 : Nat) (Option.some Jvm.ClassFile.FieldType.int)) ∈ lw_all := lw_g (lw_at lw_m10 228 rfl) rfl
theorem q2510 : (Jvm.Cond.code ({ cls := "SofaDig", name := "empireOf", desc := "(I)I" } : Jvm.MethodName) prog_1_method_36_code (2 : Nat) (Option.some Jvm.ClassFile.FieldType.int)) ∈ lw_all := lw_g (lw_at lw_m10 235 rfl) rfl
theorem q2517 : (Jvm.Cond.code ({ cls := "SofaDig", name := "buriedUnder", desc := "(I)I" } : Jvm.MethodName) prog_1_method_37_code (2 : Nat) (Option.some Jvm.ClassFile.FieldType.int)) ∈ lw_all := lw_g (lw_at lw_m11 2 rfl) rfl
theorem q2518 : (Jvm.Cond.methodLink "SofaDig" (189 : Nat) ({ cls := "SofaDig$Sofa", name := "above", desc := "(I)I" } : Jvm.MethodName)) ∈ lw_all := lw_g (lw_at lw_m11 3 rfl) rfl
theorem q2519 : (Jvm.Cond.instanceMethod ({ cls := "SofaDig$Sofa", name := "above", desc := "(I)I" } : Jvm.MethodName)) ∈ lw_all := lw_g (lw_at lw_m11 4 rfl) rfl
theorem q2520 : (Jvm.Cond.selects "SofaDig$Sofa" ({ cls := "SofaDig$Sofa", name := "above", desc := "(I)I" } : Jvm.MethodName) ({ cls := "SofaDig$Sofa", name := "above", desc := "(I)I" } : Jvm.MethodName)) ∈ lw_all := lw_g (lw_at lw_m11 5 rfl) rfl
theorem q2528 : (Jvm.Cond.code ({ cls := "SofaDig", name := "notBefore", desc := "(I)I" } : Jvm.MethodName) prog_1_method_38_code (2 : Nat) (Option.some Jvm.ClassFile.FieldType.int)) ∈ lw_all := lw_g (lw_at lw_m11 13 rfl) rfl
theorem q2529 : (Jvm.Cond.methodLink "SofaDig" (192 : Nat) ({ cls := "SofaDig", name := "stratum", desc := "(I)I" } : Jvm.MethodName)) ∈ lw_all := lw_g (lw_at lw_m11 14 rfl) rfl
theorem q2531 : (Jvm.Cond.instanceMethod ({ cls := "SofaDig", name := "stratum", desc := "(I)I" } : Jvm.MethodName)) ∈ lw_all := lw_g (lw_at lw_m11 16 rfl) rfl
theorem q2532 : (Jvm.Cond.code ({ cls := "SofaDig", name := "stratum", desc := "(I)I" } : Jvm.MethodName) prog_1_method_13_code (2 : Nat) (Option.some Jvm.ClassFile.FieldType.int)) ∈ lw_all := lw_g (lw_at lw_m11 17 rfl) rfl
theorem q2539 : (Jvm.Cond.code ({ cls := "SofaDig", name := "isSeenIn", desc := "(II)Z" } : Jvm.MethodName) prog_1_method_39_code (3 : Nat) (Option.some Jvm.ClassFile.FieldType.boolean)) ∈ lw_all := lw_g (lw_at lw_m11 24 rfl) rfl
theorem q2540 : (Jvm.Cond.methodLink "SofaDig" (200 : Nat) ({ cls := "SofaDig$Sofa", name := "isSeenIn", desc := "(II)Z" } : Jvm.MethodName)) ∈ lw_all := lw_g (lw_at lw_m11 25 rfl) rfl
theorem q2547 : (Jvm.Cond.code ({ cls := "SofaDig", name := "isMixed", desc := "(I)Z" } : Jvm.MethodName) prog_1_method_40_code (2 : Nat) (Option.some Jvm.ClassFile.FieldType.boolean)) ∈ lw_all := lw_g (lw_at lw_m11 32 rfl) rfl
theorem q2554 : (Jvm.Cond.code ({ cls := "SofaDig", name := "dig", desc := "(I)I" } : Jvm.MethodName) prog_1_method_41_code (2 : Nat) (Option.some Jvm.ClassFile.FieldType.int)) ∈ lw_all := lw_g (lw_at lw_m11 39 rfl) rfl
theorem q2561 : (Jvm.Cond.code ({ cls := "SofaDig", name := "prop", desc := "(I)I" } : Jvm.MethodName) prog_1_method_42_code (2 : Nat) (Option.some Jvm.ClassFile.FieldType.int)) ∈ lw_all := lw_g (lw_at lw_m11 46 rfl) rfl
theorem q2562 : (Jvm.Cond.methodLink "SofaDig" (210 : Nat) ({ cls := "SofaDig$Sofa", name := "prop", desc := "(I)Z" } : Jvm.MethodName)) ∈ lw_all := lw_g (lw_at lw_m11 47 rfl) rfl
theorem q2573 : (Jvm.Cond.code ({ cls := "SofaDig", name := "takeProp", desc := "(I)I" } : Jvm.MethodName) prog_1_method_43_code (3 : Nat) (Option.some Jvm.ClassFile.FieldType.int)) ∈ lw_all := lw_g (lw_at lw_m11 58 rfl) rfl
theorem q2574 : (Jvm.Cond.methodLink "SofaDig" (213 : Nat) ({ cls := "SofaDig", name := "isPropped", desc := "(I)Z" } : Jvm.MethodName)) ∈ lw_all := lw_g (lw_at lw_m11 59 rfl) rfl
theorem q2575 : (Jvm.Cond.methodLink "SofaDig" (214 : Nat) ({ cls := "SofaDig$Sofa", name := "free", desc := "(I)V" } : Jvm.MethodName)) ∈ lw_all := lw_g (lw_at lw_m11 60 rfl) rfl
theorem q2585 : (Jvm.Cond.code ({ cls := "SofaDig", name := "passDays", desc := "(I)I" } : Jvm.MethodName) prog_1_method_44_code (3 : Nat) (Option.some Jvm.ClassFile.FieldType.int)) ∈ lw_all := lw_g (lw_at lw_m11 70 rfl) rfl
theorem q2586 : (Jvm.Cond.methodLink "SofaDig" (217 : Nat) ({ cls := "SofaDig$Sofa", name := "pass", desc := "(I)V" } : Jvm.MethodName)) ∈ lw_all := lw_g (lw_at lw_m11 71 rfl) rfl
theorem q2587 : (Jvm.Cond.instanceMethod ({ cls := "SofaDig$Sofa", name := "pass", desc := "(I)V" } : Jvm.MethodName)) ∈ lw_all := lw_g (lw_at lw_m11 72 rfl) rfl
theorem q2588 : (Jvm.Cond.selects "SofaDig$Sofa" ({ cls := "SofaDig$Sofa", name := "pass", desc := "(I)V" } : Jvm.MethodName) ({ cls := "SofaDig$Sofa", name := "pass", desc := "(I)V" } : Jvm.MethodName)) ∈ lw_all := lw_g (lw_at lw_m11 73 rfl) rfl
theorem q2744 : (Jvm.Cond.code ({ cls := "SofaDig", name := "foundAfter", desc := "(I)I" } : Jvm.MethodName) prog_1_method_45_code (2 : Nat) (Option.some Jvm.ClassFile.FieldType.int)) ∈ lw_all := lw_g (lw_at lw_m11 229 rfl) rfl
theorem q2751 : (Jvm.Cond.code ({ cls := "SofaDig", name := "daysUntilFound", desc := "(I)I" } : Jvm.MethodName) prog_1_method_46_code (3 : Nat) (Option.some Jvm.ClassFile.FieldType.int)) ∈ lw_all := lw_g (lw_at lw_m11 236 rfl) rfl
theorem q2758 : (Jvm.Cond.code ({ cls := "SofaDig", name := "wouldSlide", desc := "(I)I" } : Jvm.MethodName) prog_1_method_48_code (2 : Nat) (Option.some Jvm.ClassFile.FieldType.int)) ∈ lw_all := lw_g (lw_at lw_m12 3 rfl) rfl
/-! SofaDig.<init>()V -/
abbrev cX1_init : ByteArray := prog_1_method_6_code
def yX1_init : MethodName := ⟨RX1, "<init>", "()V"⟩
def dkwX1_init_1 : List UInt8 := [89, 183, 0, 49, 182, 0, 50, 181, 0, 54, 42, 187, 0, 47, 89, 183, 0, 49, 181, 0, 58, 177]
abbrev dktX1_init_1 : List UInt8 := dkwX1_init_1 ++ []
def dkwX1_init_0 : List UInt8 := [42, 183, 0, 33, 42, 187, 0, 36, 89, 183, 0, 38, 181, 0, 39, 42, 2, 181, 0, 43, 42, 187, 0, 47]
abbrev dktX1_init_0 : List UInt8 := dkwX1_init_0 ++ dktX1_init_1
theorem dksX1_init_0 : cX1_init.data.toList.drop 0 = dktX1_init_0 := by decide +kernel
theorem dksX1_init_1 : cX1_init.data.toList.drop 24 = dktX1_init_1 := dk_seg dksX1_init_0 24 rfl rfl
theorem dX1_init_0 : decode cX1_init 0 = .ok (.aload_n 0, 1) := dk_42 (dk_at dksX1_init_0 0 rfl rfl)
theorem dX1_init_1 : decode cX1_init 1 = .ok (.invokespecial 33, 3) := dk_183 0 33 (dk_at dksX1_init_0 1 rfl rfl)
theorem dX1_init_4 : decode cX1_init 4 = .ok (.aload_n 0, 1) := dk_42 (dk_at dksX1_init_0 4 rfl rfl)
theorem dX1_init_5 : decode cX1_init 5 = .ok (.new 36, 3) := dk_187 0 36 (dk_at dksX1_init_0 5 rfl rfl)
theorem dX1_init_8 : decode cX1_init 8 = .ok (.dup, 1) := dk_89 (dk_at dksX1_init_0 8 rfl rfl)
theorem dX1_init_9 : decode cX1_init 9 = .ok (.invokespecial 38, 3) := dk_183 0 38 (dk_at dksX1_init_0 9 rfl rfl)
theorem dX1_init_12 : decode cX1_init 12 = .ok (.putfield 39, 3) := dk_181 0 39 (dk_at dksX1_init_0 12 rfl rfl)
theorem dX1_init_15 : decode cX1_init 15 = .ok (.aload_n 0, 1) := dk_42 (dk_at dksX1_init_0 15 rfl rfl)
theorem dX1_init_16 : decode cX1_init 16 = .ok (.iconst (-1), 1) := dk_2 (dk_at dksX1_init_0 16 rfl rfl)
theorem dX1_init_17 : decode cX1_init 17 = .ok (.putfield 43, 3) := dk_181 0 43 (dk_at dksX1_init_0 17 rfl rfl)
theorem dX1_init_20 : decode cX1_init 20 = .ok (.aload_n 0, 1) := dk_42 (dk_at dksX1_init_0 20 rfl rfl)
theorem dX1_init_21 : decode cX1_init 21 = .ok (.new 47, 3) := dk_187 0 47 (dk_at dksX1_init_0 21 rfl rfl)
theorem dX1_init_24 : decode cX1_init 24 = .ok (.dup, 1) := dk_89 (dk_at dksX1_init_1 0 rfl rfl)
theorem dX1_init_25 : decode cX1_init 25 = .ok (.invokespecial 49, 3) := dk_183 0 49 (dk_at dksX1_init_1 1 rfl rfl)
theorem dX1_init_28 : decode cX1_init 28 = .ok (.invokevirtual 50, 3) := dk_182 0 50 (dk_at dksX1_init_1 4 rfl rfl)
theorem dX1_init_31 : decode cX1_init 31 = .ok (.putfield 54, 3) := dk_181 0 54 (dk_at dksX1_init_1 7 rfl rfl)
theorem dX1_init_34 : decode cX1_init 34 = .ok (.aload_n 0, 1) := dk_42 (dk_at dksX1_init_1 10 rfl rfl)
theorem dX1_init_35 : decode cX1_init 35 = .ok (.new 47, 3) := dk_187 0 47 (dk_at dksX1_init_1 11 rfl rfl)
theorem dX1_init_38 : decode cX1_init 38 = .ok (.dup, 1) := dk_89 (dk_at dksX1_init_1 14 rfl rfl)
theorem dX1_init_39 : decode cX1_init 39 = .ok (.invokespecial 49, 3) := dk_183 0 49 (dk_at dksX1_init_1 15 rfl rfl)
theorem dX1_init_42 : decode cX1_init 42 = .ok (.putfield 58, 3) := dk_181 0 58 (dk_at dksX1_init_1 18 rfl rfl)
theorem dX1_init_45 : decode cX1_init 45 = .ok (.return_, 1) := dk_177 (dk_at dksX1_init_1 21 rfl rfl)
theorem fnX1_36 : sd_Fn "SofaDig" 36 1 2 [.null, .int 0] := ⟨(RX2, TX2, 2), tyX2, rfl, rfl, in_X2, q190, q191, q117, tyX2_ok, fun j hj => by revert j; decide⟩
theorem fpX1_init_39 : sd_Fp yX1_init 39 0 0 (.object "SofaDig$Tape") := ⟨(RX1, TX1, 4), "SofaDig", tyX1, rfl, by decide, rfl, in_X1, Or.inl rfl, tyX1_ok, nmX1, rfl, Or.inr ⟨rfl, rfl, rfl, q439⟩⟩
theorem fpX1_43_0 (n d : String) : sd_Fp ⟨"SofaDig", n, d⟩ 43 0 1 .int := ⟨(RX1, TX1, 4), "SofaDig", tyX1, rfl, by decide, rfl, in_X1, Or.inl rfl, tyX1_ok, nmX1, rfl, Or.inl ⟨rfl, Or.inl q440⟩⟩
theorem fnX1_47 : sd_Fn "SofaDig" 47 2 12 [.int 0, .int 0, .null, .null, .null, .null, .null, .int 0, .int 0, .int 0, .int 0, .int 0] := ⟨(RX3, TX3, 12), tyX3, rfl, rfl, in_X3, q206, q207, q118, tyX3_ok, fun j hj => by revert j; decide⟩
theorem fpX1_54_0 (n d : String) : sd_Fp ⟨"SofaDig", n, d⟩ 54 0 2 (.object "SofaDig$Sofa") := ⟨(RX1, TX1, 4), "SofaDig", tyX1, rfl, by decide, rfl, in_X1, Or.inl rfl, tyX1_ok, nmX1, rfl, Or.inl ⟨rfl, Or.inl q441⟩⟩
theorem fpX1_init_58 : sd_Fp yX1_init 58 0 3 (.object "SofaDig$Sofa") := ⟨(RX1, TX1, 4), "SofaDig", tyX1, rfl, by decide, rfl, in_X1, Or.inl rfl, tyX1_ok, nmX1, rfl, Or.inr ⟨rfl, rfl, rfl, q442⟩⟩
abbrev mX1_init : sd_Y := (yX1_init, cX1_init, 1, none, none)
def fX1_init (G : sd_G) (a0 : Nat) : sd_M Unit :=
  sd_bnd (sd_new 1 2 [.null, .int 0]) fun o1 =>
  sd_bnd (fX2_init G o1) fun _ =>
  sd_bnd (sd_put 0 0 (.object "SofaDig$Tape") a0 (.ref o1)) fun _ =>
  sd_bnd (sd_put 0 1 .int a0 (.int (-1))) fun _ =>
  sd_bnd (sd_new 2 12 [.int 0, .int 0, .null, .null, .null, .null, .null, .int 0, .int 0, .int 0, .int 0, .int 0]) fun o2 =>
  sd_bnd (fX3_init G o2) fun _ =>
  sd_bnd (sd_isC G 2 o2) fun _ =>
  sd_bnd (fX3_lay G o2) fun r3 =>
  sd_bnd (sd_put 0 2 (.object "SofaDig$Sofa") a0 (.ref r3)) fun _ =>
  sd_bnd (sd_new 2 12 [.int 0, .int 0, .null, .null, .null, .null, .null, .int 0, .int 0, .int 0, .int 0, .int 0]) fun o4 =>
  sd_bnd (fX3_init G o4) fun _ =>
  sd_bnd (sd_put 0 3 (.object "SofaDig$Sofa") a0 (.ref o4)) fun _ =>
  sd_ret ()
set_option maxHeartbeats 4000000 in
theorem sX1_init (l : Launch) (G : sd_G) (a0 : Nat) (h : sd_H) (ρ : Unit) (cT : Nat × Nat) (h2 : sd_H) (hf : fX1_init G a0 h = some (ρ, cT, h2)) : sd_Met mX1_init ((l, G), (8, 175), [.ref a0], (sd_oV ρ, h2), cT) h := by
  refine sd_entry (plainFor_of_name rfl) rfl (Nat.le_of_ble_eq_true rfl) ?_
  show sd_J mX1_init ((l, G), (8, 175), [.ref a0], (sd_oV ρ, h2), cT) 0 [(0, .ref a0)] [] h cT
  unfold fX1_init at hf
  refine sj_aload_n 0 dX1_init_0 rfl ?_
  refine sj_objInit q187 q188 q189 (Nat.le_of_ble_eq_true rfl) (Nat.le_of_ble_eq_true rfl) dX1_init_1 ?_
  refine sj_aload_n 0 dX1_init_4 rfl ?_
  refine sj_new fnX1_36 hf dX1_init_5 (fun o1 h c hf => ?_)
  refine sj_dup dX1_init_8 rfl ?_
  refine sj_cV (rest := [.ref o1, .ref a0]) (fun _ _ _ e => sj_runIN (n := 0) (a := o1) (As := []) (rest := [.ref o1, .ref a0]) (sX2_init l G o1 h _ _ _ e) rfl rfl q192 q193 q117 q194 rfl (by decide +kernel) rfl rfl (fun _ z => by cases z) ⟨Nat.le_of_ble_eq_true rfl, Nat.le_of_ble_eq_true rfl⟩ rfl (Nat.le_of_ble_eq_true rfl) dX1_init_9) hf (fun h c hf => ?_)
  refine sj_put fpX1_init_39 hf dX1_init_12 (fun h hf => ?_)
  refine sj_aload_n 0 dX1_init_15 rfl ?_
  refine sj_iconst (v := (-1)) dX1_init_16 (by decide) ?_
  refine sj_put (fpX1_43_0 _ _) hf dX1_init_17 (fun h hf => ?_)
  refine sj_aload_n 0 dX1_init_20 rfl ?_
  refine sj_new fnX1_47 hf dX1_init_21 (fun o2 h c hf => ?_)
  refine sj_dup dX1_init_24 rfl ?_
  refine sj_cV (rest := [.ref o2, .ref a0]) (fun _ _ _ e => sj_runIN (n := 0) (a := o2) (As := []) (rest := [.ref o2, .ref a0]) (sX3_init l G o2 h _ _ _ e) rfl rfl q208 q209 q118 q210 rfl (by decide +kernel) rfl rfl (fun _ z => by cases z) ⟨Nat.le_of_ble_eq_true rfl, Nat.le_of_ble_eq_true rfl⟩ rfl (Nat.le_of_ble_eq_true rfl) dX1_init_25) hf (fun h c hf => ?_)
  obtain ⟨fs28, he28, hf⟩ := sd_isC_some hf
  refine sj_cR (rest := [.ref a0]) (fun _ _ _ e => sj_runV (n := 0) (As := []) (rest := [.ref a0]) (sX3_lay l G o2 h _ _ _ e) he28 rfl rfl rfl rfl q301 q302 q303 q118 q304 (by decide +kernel) rfl rfl ⟨Nat.le_of_ble_eq_true rfl, Nat.le_of_ble_eq_true rfl⟩ rfl (Nat.le_of_ble_eq_true rfl) dX1_init_28) hf (fun r3 h c hf => ?_)
  refine sj_put (fpX1_54_0 _ _) hf dX1_init_31 (fun h hf => ?_)
  refine sj_aload_n 0 dX1_init_34 rfl ?_
  refine sj_new fnX1_47 hf dX1_init_35 (fun o4 h c hf => ?_)
  refine sj_dup dX1_init_38 rfl ?_
  refine sj_cV (rest := [.ref o4, .ref a0]) (fun _ _ _ e => sj_runIN (n := 0) (a := o4) (As := []) (rest := [.ref o4, .ref a0]) (sX3_init l G o4 h _ _ _ e) rfl rfl q208 q209 q118 q210 rfl (by decide +kernel) rfl rfl (fun _ z => by cases z) ⟨Nat.le_of_ble_eq_true rfl, Nat.le_of_ble_eq_true rfl⟩ rfl (Nat.le_of_ble_eq_true rfl) dX1_init_39) hf (fun h c hf => ?_)
  refine sj_put fpX1_init_58 hf dX1_init_42 (fun h hf => ?_)
  exact sj_vret (o := sd_oV) hf rfl rfl rfl dX1_init_45
/-! SofaDig.teach()I -/
abbrev cX1_teach : ByteArray := prog_1_method_9_code
def yX1_teach : MethodName := ⟨RX1, "teach", "()I"⟩
def dkwX1_teach_2 : List UInt8 := [180, 0, 96, 181, 0, 43, 42, 180, 0, 39, 3, 181, 0, 61, 27, 172]
abbrev dktX1_teach_2 : List UInt8 := dkwX1_teach_2 ++ []
def dkwX1_teach_1 : List UInt8 := [182, 0, 81, 183, 0, 85, 182, 0, 88, 181, 0, 54, 167, 0, 17, 77, 44, 180, 0, 93, 60, 42, 44]
abbrev dktX1_teach_1 : List UInt8 := dkwX1_teach_1 ++ dktX1_teach_2
def dkwX1_teach_0 : List UInt8 := [3, 60, 42, 2, 181, 0, 43, 42, 187, 0, 74, 89, 187, 0, 76, 89, 42, 180, 0, 39, 183, 0, 78]
abbrev dktX1_teach_0 : List UInt8 := dkwX1_teach_0 ++ dktX1_teach_1
theorem dksX1_teach_0 : cX1_teach.data.toList.drop 0 = dktX1_teach_0 := by decide +kernel
theorem dksX1_teach_1 : cX1_teach.data.toList.drop 23 = dktX1_teach_1 := dk_seg dksX1_teach_0 23 rfl rfl
theorem dksX1_teach_2 : cX1_teach.data.toList.drop 46 = dktX1_teach_2 := dk_seg dksX1_teach_1 23 rfl rfl
theorem dX1_teach_0 : decode cX1_teach 0 = .ok (.iconst 0, 1) := dk_3 (dk_at dksX1_teach_0 0 rfl rfl)
theorem dX1_teach_1 : decode cX1_teach 1 = .ok (.istore_n 1, 1) := dk_60 (dk_at dksX1_teach_0 1 rfl rfl)
theorem dX1_teach_2 : decode cX1_teach 2 = .ok (.aload_n 0, 1) := dk_42 (dk_at dksX1_teach_0 2 rfl rfl)
theorem dX1_teach_3 : decode cX1_teach 3 = .ok (.iconst (-1), 1) := dk_2 (dk_at dksX1_teach_0 3 rfl rfl)
theorem dX1_teach_4 : decode cX1_teach 4 = .ok (.putfield 43, 3) := dk_181 0 43 (dk_at dksX1_teach_0 4 rfl rfl)
theorem dX1_teach_7 : decode cX1_teach 7 = .ok (.aload_n 0, 1) := dk_42 (dk_at dksX1_teach_0 7 rfl rfl)
theorem dX1_teach_8 : decode cX1_teach 8 = .ok (.new 74, 3) := dk_187 0 74 (dk_at dksX1_teach_0 8 rfl rfl)
theorem dX1_teach_11 : decode cX1_teach 11 = .ok (.dup, 1) := dk_89 (dk_at dksX1_teach_0 11 rfl rfl)
theorem dX1_teach_12 : decode cX1_teach 12 = .ok (.new 76, 3) := dk_187 0 76 (dk_at dksX1_teach_0 12 rfl rfl)
theorem dX1_teach_15 : decode cX1_teach 15 = .ok (.dup, 1) := dk_89 (dk_at dksX1_teach_0 15 rfl rfl)
theorem dX1_teach_16 : decode cX1_teach 16 = .ok (.aload_n 0, 1) := dk_42 (dk_at dksX1_teach_0 16 rfl rfl)
theorem dX1_teach_17 : decode cX1_teach 17 = .ok (.getfield 39, 3) := dk_180 0 39 (dk_at dksX1_teach_0 17 rfl rfl)
theorem dX1_teach_20 : decode cX1_teach 20 = .ok (.invokespecial 78, 3) := dk_183 0 78 (dk_at dksX1_teach_0 20 rfl rfl)
theorem dX1_teach_23 : decode cX1_teach 23 = .ok (.invokevirtual 81, 3) := dk_182 0 81 (dk_at dksX1_teach_1 0 rfl rfl)
theorem dX1_teach_26 : decode cX1_teach 26 = .ok (.invokespecial 85, 3) := dk_183 0 85 (dk_at dksX1_teach_1 3 rfl rfl)
theorem dX1_teach_29 : decode cX1_teach 29 = .ok (.invokevirtual 88, 3) := dk_182 0 88 (dk_at dksX1_teach_1 6 rfl rfl)
theorem dX1_teach_32 : decode cX1_teach 32 = .ok (.putfield 54, 3) := dk_181 0 54 (dk_at dksX1_teach_1 9 rfl rfl)
theorem dX1_teach_35 : decode cX1_teach 35 = .ok (.goto 17, 3) := dk_167 0 17 (dk_at dksX1_teach_1 12 rfl rfl)
theorem dX1_teach_38 : decode cX1_teach 38 = .ok (.astore_n 2, 1) := dk_77 (dk_at dksX1_teach_1 15 rfl rfl)
theorem dX1_teach_39 : decode cX1_teach 39 = .ok (.aload_n 2, 1) := dk_44 (dk_at dksX1_teach_1 16 rfl rfl)
theorem dX1_teach_40 : decode cX1_teach 40 = .ok (.getfield 93, 3) := dk_180 0 93 (dk_at dksX1_teach_1 17 rfl rfl)
theorem dX1_teach_43 : decode cX1_teach 43 = .ok (.istore_n 1, 1) := dk_60 (dk_at dksX1_teach_1 20 rfl rfl)
theorem dX1_teach_44 : decode cX1_teach 44 = .ok (.aload_n 0, 1) := dk_42 (dk_at dksX1_teach_1 21 rfl rfl)
theorem dX1_teach_45 : decode cX1_teach 45 = .ok (.aload_n 2, 1) := dk_44 (dk_at dksX1_teach_1 22 rfl rfl)
theorem dX1_teach_46 : decode cX1_teach 46 = .ok (.getfield 96, 3) := dk_180 0 96 (dk_at dksX1_teach_2 0 rfl rfl)
theorem dX1_teach_49 : decode cX1_teach 49 = .ok (.putfield 43, 3) := dk_181 0 43 (dk_at dksX1_teach_2 3 rfl rfl)
theorem dX1_teach_52 : decode cX1_teach 52 = .ok (.aload_n 0, 1) := dk_42 (dk_at dksX1_teach_2 6 rfl rfl)
theorem dX1_teach_53 : decode cX1_teach 53 = .ok (.getfield 39, 3) := dk_180 0 39 (dk_at dksX1_teach_2 7 rfl rfl)
theorem dX1_teach_56 : decode cX1_teach 56 = .ok (.iconst 0, 1) := dk_3 (dk_at dksX1_teach_2 10 rfl rfl)
theorem dX1_teach_57 : decode cX1_teach 57 = .ok (.putfield 61, 3) := dk_181 0 61 (dk_at dksX1_teach_2 11 rfl rfl)
theorem dX1_teach_60 : decode cX1_teach 60 = .ok (.iload_n 1, 1) := dk_27 (dk_at dksX1_teach_2 14 rfl rfl)
theorem dX1_teach_61 : decode cX1_teach 61 = .ok (.ireturn, 1) := dk_172 (dk_at dksX1_teach_2 15 rfl rfl)
theorem fnX1_74 : sd_Fn "SofaDig" 74 6 6 [.null, .int 0, .int 0, .int 0, .null, .null] := ⟨(RX7, TX7, 6), tyX7, rfl, rfl, in_X7, q457, q458, q134, tyX7_ok, fun j hj => by revert j; decide⟩
theorem fnX1_76 : sd_Fn "SofaDig" 76 7 2 [.null, .null] := ⟨(RX8, TX8, 2), tyX8, rfl, rfl, in_X8, q459, q460, q135, tyX8_ok, fun j hj => by revert j; decide⟩
theorem fdX1_39_0 : sd_Fd "SofaDig" 39 0 0 := ⟨(RX1, TX1, 4), "SofaDig", rfl, by decide, rfl, in_X1, Or.inl rfl, Or.inl q439⟩
theorem fdX1_93_9 : sd_Fd "SofaDig" 93 9 0 := ⟨(RX10, TZ1, 2), "SofaDig$Fault", rfl, by decide, rfl, in_Z1, Or.inl rfl, Or.inr ⟨_, q1051⟩⟩
theorem fdX1_96_9 : sd_Fd "SofaDig" 96 9 1 := ⟨(RX10, TZ1, 2), "SofaDig$Fault", rfl, by decide, rfl, in_Z1, Or.inl rfl, Or.inr ⟨_, q1053⟩⟩
theorem fpX1_61_1 (n d : String) : sd_Fp ⟨"SofaDig", n, d⟩ 61 1 1 .int := ⟨(RX2, TX2, 2), "SofaDig$Tape", tyX2, rfl, by decide, rfl, in_X2, Or.inl rfl, tyX2_ok, nmX2, rfl, Or.inl ⟨rfl, Or.inr ⟨_, q199⟩⟩⟩
abbrev mX1_teach : sd_Y := (yX1_teach, cX1_teach, 3, some (.int), some [(7, 35, 38, 91)])
def fX1_teach (G : sd_G) (a0 : Nat) : sd_M Int32 :=
  sd_bnd (sd_put 0 1 .int a0 (.int (-1))) fun _ =>
  sd_bnd (sd_new 6 6 [.null, .int 0, .int 0, .int 0, .null, .null]) fun o1 =>
  sd_bnd (sd_new 7 2 [.null, .null]) fun o2 =>
  sd_bnd (sd_getR G 0 0 a0) fun v3 =>
  sd_bnd (fX8_init G o2 v3) fun _ =>
  sd_bnd (sd_isC G 7 o2) fun _ =>
  sd_bnd (fX8_all G o2) fun r4 =>
  sd_bnd (fX7_init G o1 r4) fun _ =>
  sd_bnd (sd_isC G 6 o1) fun _ =>
  sd_bx (fX7_read G o1) (fun e29 =>
    sd_bnd (sd_own e29) fun k29 =>
    if k29 = 9 then (
      sd_bnd (sd_getI G 9 0 e29) fun v6 =>
      sd_bnd (sd_getI G 9 1 e29) fun v7 =>
      sd_bnd (sd_put 0 1 .int a0 (.int v7)) fun _ =>
      sd_bnd (sd_getR G 0 0 a0) fun v8 =>
      sd_bnd (sd_put 1 1 .int v8 (.int 0)) fun _ =>
      sd_ret v6)
    else sd_fail) fun r5 =>
  sd_bnd (sd_put 0 2 (.object "SofaDig$Sofa") a0 (.ref r5)) fun _ =>
  sd_bnd (sd_getR G 0 0 a0) fun v9 =>
  sd_bnd (sd_put 1 1 .int v9 (.int 0)) fun _ =>
  sd_ret 0
set_option maxHeartbeats 4000000 in
theorem sX1_teach (l : Launch) (hl : l.stackTraces = false) (G : sd_G) (a0 : Nat) (h : sd_H) (ρ : Int32) (cT : Nat × Nat) (h2 : sd_H) (hf : fX1_teach G a0 h = some (ρ, cT, h2)) : sd_Met mX1_teach ((l, G), (115, 4888), [.ref a0], (sd_oI ρ, h2), cT) h := by
  refine sd_entryW rfl rfl (Nat.le_of_ble_eq_true rfl) ?_
  show sd_J mX1_teach ((l, G), (115, 4888), [.ref a0], (sd_oI ρ, h2), cT) 0 [(0, .ref a0)] [] h cT
  unfold fX1_teach at hf
  refine sj_iconst (v := 0) dX1_teach_0 (by decide) ?_
  refine sj_istore_n [(1, .int 0), (0, .ref a0)] dX1_teach_1 (by decide) rfl ?_
  refine sj_aload_n 1 dX1_teach_2 rfl ?_
  refine sj_iconst (v := (-1)) dX1_teach_3 (by decide) ?_
  refine sj_put (fpX1_43_0 _ _) hf dX1_teach_4 (fun h hf => ?_)
  refine sj_aload_n 1 dX1_teach_7 rfl ?_
  refine sj_new fnX1_74 hf dX1_teach_8 (fun o1 h c hf => ?_)
  refine sj_dup dX1_teach_11 rfl ?_
  refine sj_new fnX1_76 hf dX1_teach_12 (fun o2 h c hf => ?_)
  refine sj_dup dX1_teach_15 rfl ?_
  refine sj_aload_n 1 dX1_teach_16 rfl ?_
  refine sj_getR fdX1_39_0 hf dX1_teach_17 (fun v3 hf => ?_)
  refine sj_cV (rest := [.ref o2, .ref o1, .ref o1, .ref a0]) (fun _ _ _ e => sj_runI (n := 1) (a := o2) (As := [.ref v3]) (rest := [.ref o2, .ref o1, .ref o1, .ref a0]) (sX8_init l G o2 v3 h _ _ _ e) rfl rfl q461 q462 q135 q463 rfl (by decide +kernel) rfl rfl (fun _ z => by cases z) ⟨Nat.le_of_ble_eq_true rfl, Nat.le_of_ble_eq_true rfl⟩ rfl (Nat.le_of_ble_eq_true rfl) dX1_teach_20) hf (fun h c hf => ?_)
  obtain ⟨fs23, he23, hf⟩ := sd_isC_some hf
  refine sj_cR (rest := [.ref o1, .ref o1, .ref a0]) (fun _ _ _ e => sj_runV (n := 0) (As := []) (rest := [.ref o1, .ref o1, .ref a0]) (sX8_all l G o2 h _ _ _ e) he23 rfl rfl rfl rfl q474 q475 q476 q135 q477 (by decide +kernel) rfl rfl ⟨Nat.le_of_ble_eq_true rfl, Nat.le_of_ble_eq_true rfl⟩ rfl (Nat.le_of_ble_eq_true rfl) dX1_teach_23) hf (fun r4 h c hf => ?_)
  refine sj_cV (rest := [.ref o1, .ref a0]) (fun _ _ _ e => sj_runI (n := 1) (a := o1) (As := [.ref r4]) (rest := [.ref o1, .ref a0]) (sX7_init l G o1 r4 h _ _ _ e) rfl rfl q921 q922 q134 q923 rfl (by decide +kernel) rfl rfl (fun _ z => by cases z) ⟨Nat.le_of_ble_eq_true rfl, Nat.le_of_ble_eq_true rfl⟩ rfl (Nat.le_of_ble_eq_true rfl) dX1_teach_26) hf (fun h c hf => ?_)
  obtain ⟨fs29, he29, hf⟩ := sd_isC_some hf
  refine sj_xR (rest := [.ref a0]) (fun _ _ _ e => sj_runV (n := 0) (As := []) (rest := [.ref a0]) (sX7_read l hl G o1 h _ _ _ e) he29 rfl rfl rfl rfl q978 q979 q980 q134 q981 (by decide +kernel) rfl rfl ⟨Nat.le_of_ble_eq_true rfl, Nat.le_of_ble_eq_true rfl⟩ rfl (Nat.le_of_ble_eq_true rfl) dX1_teach_29) hf (fun e29 h c hf => ?_) (fun r5 h c hf => ?_)
  · obtain ⟨ci29, fs29, he29, hf⟩ := sd_own_some hf
    by_cases z29_9 : ci29 = 9
    · rw [if_pos z29_9] at hf; subst z29_9
      refine sj_catch (tableOf []) ({ startPc := 7, endPc := 35, handlerPc := 38, catchType := 91 }) (tableOf []) he29 rfl rfl (fun z hz => nomatch hz) (by decide) (by decide) q456 q1036 ?_
      refine sj_astore_n [(2, .ref e29), (1, .int 0), (0, .ref a0)] dX1_teach_38 (by decide) rfl ?_
      refine sj_aload_n 0 dX1_teach_39 rfl ?_
      refine sj_getI fdX1_93_9 hf dX1_teach_40 (fun v6 hf => ?_)
      refine sj_istore_n [(1, .int v6), (2, .ref e29), (0, .ref a0)] dX1_teach_43 (by decide) rfl ?_
      refine sj_aload_n 2 dX1_teach_44 rfl ?_
      refine sj_aload_n 1 dX1_teach_45 rfl ?_
      refine sj_getI fdX1_96_9 hf dX1_teach_46 (fun v7 hf => ?_)
      refine sj_put (fpX1_43_0 _ _) hf dX1_teach_49 (fun h hf => ?_)
      refine sj_aload_n 2 dX1_teach_52 rfl ?_
      refine sj_getR fdX1_39_0 hf dX1_teach_53 (fun v8 hf => ?_)
      refine sj_iconst (v := 0) dX1_teach_56 (by decide) ?_
      refine sj_put (fpX1_61_1 _ _) hf dX1_teach_57 (fun h hf => ?_)
      refine sj_iload_n 0 dX1_teach_60 rfl ?_
      exact sj_iret (o := sd_oI) hf rfl rfl rfl dX1_teach_61
    rw [if_neg z29_9] at hf
    cases hf
  refine sj_put (fpX1_54_0 _ _) hf dX1_teach_32 (fun h hf => ?_)
  refine sj_goto 52 dX1_teach_35 (by decide) ?_
  refine sj_aload_n 1 dX1_teach_52 rfl ?_
  refine sj_getR fdX1_39_0 hf dX1_teach_53 (fun v9 hf => ?_)
  refine sj_iconst (v := 0) dX1_teach_56 (by decide) ?_
  refine sj_put (fpX1_61_1 _ _) hf dX1_teach_57 (fun h hf => ?_)
  refine sj_iload_n 0 dX1_teach_60 rfl ?_
  exact sj_iret (o := sd_oI) hf rfl rfl rfl dX1_teach_61
/-! SofaDig.errorAt()I -/
abbrev cX1_errorAt : ByteArray := prog_1_method_10_code
def yX1_errorAt : MethodName := ⟨RX1, "errorAt", "()I"⟩
theorem dX1_errorAt_0 : decode cX1_errorAt 0 = .ok (.aload_n 0, 1) := by decide +kernel
theorem dX1_errorAt_1 : decode cX1_errorAt 1 = .ok (.getfield 43, 3) := by decide +kernel
theorem dX1_errorAt_4 : decode cX1_errorAt 4 = .ok (.ireturn, 1) := by decide +kernel
theorem fdX1_43_0 : sd_Fd "SofaDig" 43 0 1 := ⟨(RX1, TX1, 4), "SofaDig", rfl, by decide, rfl, in_X1, Or.inl rfl, Or.inl q440⟩
abbrev mX1_errorAt : sd_Y := (yX1_errorAt, cX1_errorAt, 1, some (.int), none)
def fX1_errorAt (G : sd_G) (a0 : Nat) : sd_M Int32 :=
  sd_bnd (sd_getI G 0 1 a0) fun v1 =>
  sd_ret v1
set_option maxHeartbeats 4000000 in
theorem sX1_errorAt (l : Launch) (G : sd_G) (a0 : Nat) (h : sd_H) (ρ : Int32) (cT : Nat × Nat) (h2 : sd_H) (hf : fX1_errorAt G a0 h = some (ρ, cT, h2)) : sd_Met mX1_errorAt ((l, G), (0, 0), [.ref a0], (sd_oI ρ, h2), cT) h := by
  refine sd_entry (plainFor_of_name rfl) rfl (Nat.le_of_ble_eq_true rfl) ?_
  show sd_J mX1_errorAt ((l, G), (0, 0), [.ref a0], (sd_oI ρ, h2), cT) 0 [(0, .ref a0)] [] h cT
  unfold fX1_errorAt at hf
  refine sj_aload_n 0 dX1_errorAt_0 rfl ?_
  refine sj_getI fdX1_43_0 hf dX1_errorAt_1 (fun v1 hf => ?_)
  exact sj_iret (o := sd_oI) hf rfl rfl rfl dX1_errorAt_4
/-! SofaDig.seats()I -/
abbrev cX1_seats : ByteArray := prog_1_method_15_code
def yX1_seats : MethodName := ⟨RX1, "seats", "()I"⟩
def dkwX1_seats_0 : List UInt8 := [42, 180, 0, 54, 180, 0, 99, 172]
abbrev dktX1_seats_0 : List UInt8 := dkwX1_seats_0 ++ []
theorem dksX1_seats_0 : cX1_seats.data.toList.drop 0 = dktX1_seats_0 := by decide +kernel
theorem dX1_seats_0 : decode cX1_seats 0 = .ok (.aload_n 0, 1) := dk_42 (dk_at dksX1_seats_0 0 rfl rfl)
theorem dX1_seats_1 : decode cX1_seats 1 = .ok (.getfield 54, 3) := dk_180 0 54 (dk_at dksX1_seats_0 1 rfl rfl)
theorem dX1_seats_4 : decode cX1_seats 4 = .ok (.getfield 99, 3) := dk_180 0 99 (dk_at dksX1_seats_0 4 rfl rfl)
theorem dX1_seats_7 : decode cX1_seats 7 = .ok (.ireturn, 1) := dk_172 (dk_at dksX1_seats_0 7 rfl rfl)
theorem fdX1_54_0 : sd_Fd "SofaDig" 54 0 2 := ⟨(RX1, TX1, 4), "SofaDig", rfl, by decide, rfl, in_X1, Or.inl rfl, Or.inl q441⟩
theorem fdX1_99_2 : sd_Fd "SofaDig" 99 2 1 := ⟨(RX3, TX3, 12), "SofaDig$Sofa", rfl, by decide, rfl, in_X3, Or.inl rfl, Or.inr ⟨_, q246⟩⟩
abbrev mX1_seats : sd_Y := (yX1_seats, cX1_seats, 1, some (.int), none)
def fX1_seats (G : sd_G) (a0 : Nat) : sd_M Int32 :=
  sd_bnd (sd_getR G 0 2 a0) fun v1 =>
  sd_bnd (sd_getI G 2 1 v1) fun v2 =>
  sd_ret v2
set_option maxHeartbeats 4000000 in
theorem sX1_seats (l : Launch) (G : sd_G) (a0 : Nat) (h : sd_H) (ρ : Int32) (cT : Nat × Nat) (h2 : sd_H) (hf : fX1_seats G a0 h = some (ρ, cT, h2)) : sd_Met mX1_seats ((l, G), (0, 0), [.ref a0], (sd_oI ρ, h2), cT) h := by
  refine sd_entry (plainFor_of_name rfl) rfl (Nat.le_of_ble_eq_true rfl) ?_
  show sd_J mX1_seats ((l, G), (0, 0), [.ref a0], (sd_oI ρ, h2), cT) 0 [(0, .ref a0)] [] h cT
  unfold fX1_seats at hf
  refine sj_aload_n 0 dX1_seats_0 rfl ?_
  refine sj_getR fdX1_54_0 hf dX1_seats_1 (fun v1 hf => ?_)
  refine sj_getI fdX1_99_2 hf dX1_seats_4 (fun v2 hf => ?_)
  exact sj_iret (o := sd_oI) hf rfl rfl rfl dX1_seats_7
/-! SofaDig.strata()I -/
abbrev cX1_strata : ByteArray := prog_1_method_16_code
def yX1_strata : MethodName := ⟨RX1, "strata", "()I"⟩
def dkwX1_strata_0 : List UInt8 := [42, 180, 0, 54, 180, 0, 106, 172]
abbrev dktX1_strata_0 : List UInt8 := dkwX1_strata_0 ++ []
theorem dksX1_strata_0 : cX1_strata.data.toList.drop 0 = dktX1_strata_0 := by decide +kernel
theorem dX1_strata_0 : decode cX1_strata 0 = .ok (.aload_n 0, 1) := dk_42 (dk_at dksX1_strata_0 0 rfl rfl)
theorem dX1_strata_1 : decode cX1_strata 1 = .ok (.getfield 54, 3) := dk_180 0 54 (dk_at dksX1_strata_0 1 rfl rfl)
theorem dX1_strata_4 : decode cX1_strata 4 = .ok (.getfield 106, 3) := dk_180 0 106 (dk_at dksX1_strata_0 4 rfl rfl)
theorem dX1_strata_7 : decode cX1_strata 7 = .ok (.ireturn, 1) := dk_172 (dk_at dksX1_strata_0 7 rfl rfl)
theorem fdX1_106_2 : sd_Fd "SofaDig" 106 2 0 := ⟨(RX3, TX3, 12), "SofaDig$Sofa", rfl, by decide, rfl, in_X3, Or.inl rfl, Or.inr ⟨_, q243⟩⟩
abbrev mX1_strata : sd_Y := (yX1_strata, cX1_strata, 1, some (.int), none)
def fX1_strata (G : sd_G) (a0 : Nat) : sd_M Int32 :=
  sd_bnd (sd_getR G 0 2 a0) fun v1 =>
  sd_bnd (sd_getI G 2 0 v1) fun v2 =>
  sd_ret v2
set_option maxHeartbeats 4000000 in
theorem sX1_strata (l : Launch) (G : sd_G) (a0 : Nat) (h : sd_H) (ρ : Int32) (cT : Nat × Nat) (h2 : sd_H) (hf : fX1_strata G a0 h = some (ρ, cT, h2)) : sd_Met mX1_strata ((l, G), (0, 0), [.ref a0], (sd_oI ρ, h2), cT) h := by
  refine sd_entry (plainFor_of_name rfl) rfl (Nat.le_of_ble_eq_true rfl) ?_
  show sd_J mX1_strata ((l, G), (0, 0), [.ref a0], (sd_oI ρ, h2), cT) 0 [(0, .ref a0)] [] h cT
  unfold fX1_strata at hf
  refine sj_aload_n 0 dX1_strata_0 rfl ?_
  refine sj_getR fdX1_54_0 hf dX1_strata_1 (fun v1 hf => ?_)
  refine sj_getI fdX1_106_2 hf dX1_strata_4 (fun v2 hf => ?_)
  exact sj_iret (o := sd_oI) hf rfl rfl rfl dX1_strata_7
/-! SofaDig.finds()I -/
abbrev cX1_finds : ByteArray := prog_1_method_17_code
def yX1_finds : MethodName := ⟨RX1, "finds", "()I"⟩
def dkwX1_finds_0 : List UInt8 := [42, 180, 0, 54, 180, 0, 109, 182, 0, 118, 172]
abbrev dktX1_finds_0 : List UInt8 := dkwX1_finds_0 ++ []
theorem dksX1_finds_0 : cX1_finds.data.toList.drop 0 = dktX1_finds_0 := by decide +kernel
theorem dX1_finds_0 : decode cX1_finds 0 = .ok (.aload_n 0, 1) := dk_42 (dk_at dksX1_finds_0 0 rfl rfl)
theorem dX1_finds_1 : decode cX1_finds 1 = .ok (.getfield 54, 3) := dk_180 0 54 (dk_at dksX1_finds_0 1 rfl rfl)
theorem dX1_finds_4 : decode cX1_finds 4 = .ok (.getfield 109, 3) := dk_180 0 109 (dk_at dksX1_finds_0 4 rfl rfl)
theorem dX1_finds_7 : decode cX1_finds 7 = .ok (.invokevirtual 118, 3) := dk_182 0 118 (dk_at dksX1_finds_0 7 rfl rfl)
theorem dX1_finds_10 : decode cX1_finds 10 = .ok (.ireturn, 1) := dk_172 (dk_at dksX1_finds_0 10 rfl rfl)
theorem fdX1_109_2 : sd_Fd "SofaDig" 109 2 4 := ⟨(RX3, TX3, 12), "SofaDig$Sofa", rfl, by decide, rfl, in_X3, Or.inl rfl, Or.inr ⟨_, q257⟩⟩
abbrev mX1_finds : sd_Y := (yX1_finds, cX1_finds, 1, some (.int), none)
def fX1_finds (G : sd_G) (a0 : Nat) : sd_M Int32 :=
  sd_bnd (sd_getR G 0 2 a0) fun v1 =>
  sd_bnd (sd_getR G 2 4 v1) fun v2 =>
  sd_bnd (sd_isC G 41 v2) fun _ =>
  sd_bnd (fJ2_size G v2) fun r3 =>
  sd_ret r3
set_option maxHeartbeats 4000000 in
theorem sX1_finds (l : Launch) (G : sd_G) (a0 : Nat) (h : sd_H) (ρ : Int32) (cT : Nat × Nat) (h2 : sd_H) (hf : fX1_finds G a0 h = some (ρ, cT, h2)) : sd_Met mX1_finds ((l, G), (1, 20), [.ref a0], (sd_oI ρ, h2), cT) h := by
  refine sd_entry (plainFor_of_name rfl) rfl (Nat.le_of_ble_eq_true rfl) ?_
  show sd_J mX1_finds ((l, G), (1, 20), [.ref a0], (sd_oI ρ, h2), cT) 0 [(0, .ref a0)] [] h cT
  unfold fX1_finds at hf
  refine sj_aload_n 0 dX1_finds_0 rfl ?_
  refine sj_getR fdX1_54_0 hf dX1_finds_1 (fun v1 hf => ?_)
  refine sj_getR fdX1_109_2 hf dX1_finds_4 (fun v2 hf => ?_)
  obtain ⟨fs7, he7, hf⟩ := sd_isC_some hf
  refine sj_cI (rest := []) (fun _ _ _ e => sj_runV (n := 0) (As := []) (rest := []) (sJ2_size l G v2 h _ _ _ e) he7 rfl rfl rfl rfl q2104 q490 q491 q121 q492 (by decide +kernel) rfl rfl ⟨Nat.le_of_ble_eq_true rfl, Nat.le_of_ble_eq_true rfl⟩ rfl (Nat.le_of_ble_eq_true rfl) dX1_finds_7) hf (fun r3 h c hf => ?_)
  exact sj_iret (o := sd_oI) hf rfl rfl rfl dX1_finds_10
/-! SofaDig.days()I -/
abbrev cX1_days : ByteArray := prog_1_method_18_code
def yX1_days : MethodName := ⟨RX1, "days", "()I"⟩
def dkwX1_days_0 : List UInt8 := [42, 180, 0, 54, 180, 0, 121, 172]
abbrev dktX1_days_0 : List UInt8 := dkwX1_days_0 ++ []
theorem dksX1_days_0 : cX1_days.data.toList.drop 0 = dktX1_days_0 := by decide +kernel
theorem dX1_days_0 : decode cX1_days 0 = .ok (.aload_n 0, 1) := dk_42 (dk_at dksX1_days_0 0 rfl rfl)
theorem dX1_days_1 : decode cX1_days 1 = .ok (.getfield 54, 3) := dk_180 0 54 (dk_at dksX1_days_0 1 rfl rfl)
theorem dX1_days_4 : decode cX1_days 4 = .ok (.getfield 121, 3) := dk_180 0 121 (dk_at dksX1_days_0 4 rfl rfl)
theorem dX1_days_7 : decode cX1_days 7 = .ok (.ireturn, 1) := dk_172 (dk_at dksX1_days_0 7 rfl rfl)
theorem fdX1_121_2 : sd_Fd "SofaDig" 121 2 8 := ⟨(RX3, TX3, 12), "SofaDig$Sofa", rfl, by decide, rfl, in_X3, Or.inl rfl, Or.inr ⟨_, q266⟩⟩
abbrev mX1_days : sd_Y := (yX1_days, cX1_days, 1, some (.int), none)
def fX1_days (G : sd_G) (a0 : Nat) : sd_M Int32 :=
  sd_bnd (sd_getR G 0 2 a0) fun v1 =>
  sd_bnd (sd_getI G 2 8 v1) fun v2 =>
  sd_ret v2
set_option maxHeartbeats 4000000 in
theorem sX1_days (l : Launch) (G : sd_G) (a0 : Nat) (h : sd_H) (ρ : Int32) (cT : Nat × Nat) (h2 : sd_H) (hf : fX1_days G a0 h = some (ρ, cT, h2)) : sd_Met mX1_days ((l, G), (0, 0), [.ref a0], (sd_oI ρ, h2), cT) h := by
  refine sd_entry (plainFor_of_name rfl) rfl (Nat.le_of_ble_eq_true rfl) ?_
  show sd_J mX1_days ((l, G), (0, 0), [.ref a0], (sd_oI ρ, h2), cT) 0 [(0, .ref a0)] [] h cT
  unfold fX1_days at hf
  refine sj_aload_n 0 dX1_days_0 rfl ?_
  refine sj_getR fdX1_54_0 hf dX1_days_1 (fun v1 hf => ?_)
  refine sj_getI fdX1_121_2 hf dX1_days_4 (fun v2 hf => ?_)
  exact sj_iret (o := sd_oI) hf rfl rfl rfl dX1_days_7
/-! SofaDig.ordersCarriedOut()I -/
abbrev cX1_ordersCarriedOut : ByteArray := prog_1_method_19_code
def yX1_ordersCarriedOut : MethodName := ⟨RX1, "ordersCarriedOut", "()I"⟩
def dkwX1_ordersCarriedOut_0 : List UInt8 := [42, 180, 0, 54, 180, 0, 124, 172]
abbrev dktX1_ordersCarriedOut_0 : List UInt8 := dkwX1_ordersCarriedOut_0 ++ []
theorem dksX1_ordersCarriedOut_0 : cX1_ordersCarriedOut.data.toList.drop 0 = dktX1_ordersCarriedOut_0 := by decide +kernel
theorem dX1_ordersCarriedOut_0 : decode cX1_ordersCarriedOut 0 = .ok (.aload_n 0, 1) := dk_42 (dk_at dksX1_ordersCarriedOut_0 0 rfl rfl)
theorem dX1_ordersCarriedOut_1 : decode cX1_ordersCarriedOut 1 = .ok (.getfield 54, 3) := dk_180 0 54 (dk_at dksX1_ordersCarriedOut_0 1 rfl rfl)
theorem dX1_ordersCarriedOut_4 : decode cX1_ordersCarriedOut 4 = .ok (.getfield 124, 3) := dk_180 0 124 (dk_at dksX1_ordersCarriedOut_0 4 rfl rfl)
theorem dX1_ordersCarriedOut_7 : decode cX1_ordersCarriedOut 7 = .ok (.ireturn, 1) := dk_172 (dk_at dksX1_ordersCarriedOut_0 7 rfl rfl)
theorem fdX1_124_2 : sd_Fd "SofaDig" 124 2 9 := ⟨(RX3, TX3, 12), "SofaDig$Sofa", rfl, by decide, rfl, in_X3, Or.inl rfl, Or.inr ⟨_, q268⟩⟩
abbrev mX1_ordersCarriedOut : sd_Y := (yX1_ordersCarriedOut, cX1_ordersCarriedOut, 1, some (.int), none)
def fX1_ordersCarriedOut (G : sd_G) (a0 : Nat) : sd_M Int32 :=
  sd_bnd (sd_getR G 0 2 a0) fun v1 =>
  sd_bnd (sd_getI G 2 9 v1) fun v2 =>
  sd_ret v2
set_option maxHeartbeats 4000000 in
theorem sX1_ordersCarriedOut (l : Launch) (G : sd_G) (a0 : Nat) (h : sd_H) (ρ : Int32) (cT : Nat × Nat) (h2 : sd_H) (hf : fX1_ordersCarriedOut G a0 h = some (ρ, cT, h2)) : sd_Met mX1_ordersCarriedOut ((l, G), (0, 0), [.ref a0], (sd_oI ρ, h2), cT) h := by
  refine sd_entry (plainFor_of_name rfl) rfl (Nat.le_of_ble_eq_true rfl) ?_
  show sd_J mX1_ordersCarriedOut ((l, G), (0, 0), [.ref a0], (sd_oI ρ, h2), cT) 0 [(0, .ref a0)] [] h cT
  unfold fX1_ordersCarriedOut at hf
  refine sj_aload_n 0 dX1_ordersCarriedOut_0 rfl ?_
  refine sj_getR fdX1_54_0 hf dX1_ordersCarriedOut_1 (fun v1 hf => ?_)
  refine sj_getI fdX1_124_2 hf dX1_ordersCarriedOut_4 (fun v2 hf => ?_)
  exact sj_iret (o := sd_oI) hf rfl rfl rfl dX1_ordersCarriedOut_7
/-! SofaDig.cushionsDug()I -/
abbrev cX1_cushionsDug : ByteArray := prog_1_method_20_code
def yX1_cushionsDug : MethodName := ⟨RX1, "cushionsDug", "()I"⟩
def dkwX1_cushionsDug_0 : List UInt8 := [42, 180, 0, 54, 180, 0, 127, 172]
abbrev dktX1_cushionsDug_0 : List UInt8 := dkwX1_cushionsDug_0 ++ []
theorem dksX1_cushionsDug_0 : cX1_cushionsDug.data.toList.drop 0 = dktX1_cushionsDug_0 := by decide +kernel
theorem dX1_cushionsDug_0 : decode cX1_cushionsDug 0 = .ok (.aload_n 0, 1) := dk_42 (dk_at dksX1_cushionsDug_0 0 rfl rfl)
theorem dX1_cushionsDug_1 : decode cX1_cushionsDug 1 = .ok (.getfield 54, 3) := dk_180 0 54 (dk_at dksX1_cushionsDug_0 1 rfl rfl)
theorem dX1_cushionsDug_4 : decode cX1_cushionsDug 4 = .ok (.getfield 127, 3) := dk_180 0 127 (dk_at dksX1_cushionsDug_0 4 rfl rfl)
theorem dX1_cushionsDug_7 : decode cX1_cushionsDug 7 = .ok (.ireturn, 1) := dk_172 (dk_at dksX1_cushionsDug_0 7 rfl rfl)
theorem fdX1_127_2 : sd_Fd "SofaDig" 127 2 10 := ⟨(RX3, TX3, 12), "SofaDig$Sofa", rfl, by decide, rfl, in_X3, Or.inl rfl, Or.inr ⟨_, q271⟩⟩
abbrev mX1_cushionsDug : sd_Y := (yX1_cushionsDug, cX1_cushionsDug, 1, some (.int), none)
def fX1_cushionsDug (G : sd_G) (a0 : Nat) : sd_M Int32 :=
  sd_bnd (sd_getR G 0 2 a0) fun v1 =>
  sd_bnd (sd_getI G 2 10 v1) fun v2 =>
  sd_ret v2
set_option maxHeartbeats 4000000 in
theorem sX1_cushionsDug (l : Launch) (G : sd_G) (a0 : Nat) (h : sd_H) (ρ : Int32) (cT : Nat × Nat) (h2 : sd_H) (hf : fX1_cushionsDug G a0 h = some (ρ, cT, h2)) : sd_Met mX1_cushionsDug ((l, G), (0, 0), [.ref a0], (sd_oI ρ, h2), cT) h := by
  refine sd_entry (plainFor_of_name rfl) rfl (Nat.le_of_ble_eq_true rfl) ?_
  show sd_J mX1_cushionsDug ((l, G), (0, 0), [.ref a0], (sd_oI ρ, h2), cT) 0 [(0, .ref a0)] [] h cT
  unfold fX1_cushionsDug at hf
  refine sj_aload_n 0 dX1_cushionsDug_0 rfl ?_
  refine sj_getR fdX1_54_0 hf dX1_cushionsDug_1 (fun v1 hf => ?_)
  refine sj_getI fdX1_127_2 hf dX1_cushionsDug_4 (fun v2 hf => ?_)
  exact sj_iret (o := sd_oI) hf rfl rfl rfl dX1_cushionsDug_7
/-! SofaDig.slides()I -/
abbrev cX1_slides : ByteArray := prog_1_method_21_code
def yX1_slides : MethodName := ⟨RX1, "slides", "()I"⟩
def dkwX1_slides_0 : List UInt8 := [42, 180, 0, 54, 180, 0, 130, 172]
abbrev dktX1_slides_0 : List UInt8 := dkwX1_slides_0 ++ []
theorem dksX1_slides_0 : cX1_slides.data.toList.drop 0 = dktX1_slides_0 := by decide +kernel
theorem dX1_slides_0 : decode cX1_slides 0 = .ok (.aload_n 0, 1) := dk_42 (dk_at dksX1_slides_0 0 rfl rfl)
theorem dX1_slides_1 : decode cX1_slides 1 = .ok (.getfield 54, 3) := dk_180 0 54 (dk_at dksX1_slides_0 1 rfl rfl)
theorem dX1_slides_4 : decode cX1_slides 4 = .ok (.getfield 130, 3) := dk_180 0 130 (dk_at dksX1_slides_0 4 rfl rfl)
theorem dX1_slides_7 : decode cX1_slides 7 = .ok (.ireturn, 1) := dk_172 (dk_at dksX1_slides_0 7 rfl rfl)
theorem fdX1_130_2 : sd_Fd "SofaDig" 130 2 11 := ⟨(RX3, TX3, 12), "SofaDig$Sofa", rfl, by decide, rfl, in_X3, Or.inl rfl, Or.inr ⟨_, q274⟩⟩
abbrev mX1_slides : sd_Y := (yX1_slides, cX1_slides, 1, some (.int), none)
def fX1_slides (G : sd_G) (a0 : Nat) : sd_M Int32 :=
  sd_bnd (sd_getR G 0 2 a0) fun v1 =>
  sd_bnd (sd_getI G 2 11 v1) fun v2 =>
  sd_ret v2
set_option maxHeartbeats 4000000 in
theorem sX1_slides (l : Launch) (G : sd_G) (a0 : Nat) (h : sd_H) (ρ : Int32) (cT : Nat × Nat) (h2 : sd_H) (hf : fX1_slides G a0 h = some (ρ, cT, h2)) : sd_Met mX1_slides ((l, G), (0, 0), [.ref a0], (sd_oI ρ, h2), cT) h := by
  refine sd_entry (plainFor_of_name rfl) rfl (Nat.le_of_ble_eq_true rfl) ?_
  show sd_J mX1_slides ((l, G), (0, 0), [.ref a0], (sd_oI ρ, h2), cT) 0 [(0, .ref a0)] [] h cT
  unfold fX1_slides at hf
  refine sj_aload_n 0 dX1_slides_0 rfl ?_
  refine sj_getR fdX1_54_0 hf dX1_slides_1 (fun v1 hf => ?_)
  refine sj_getI fdX1_130_2 hf dX1_slides_4 (fun v2 hf => ?_)
  exact sj_iret (o := sd_oI) hf rfl rfl rfl dX1_slides_7
/-! SofaDig.found()I -/
abbrev cX1_found : ByteArray := prog_1_method_22_code
def yX1_found : MethodName := ⟨RX1, "found", "()I"⟩
def dkwX1_found_0 : List UInt8 := [42, 180, 0, 54, 182, 0, 133, 172]
abbrev dktX1_found_0 : List UInt8 := dkwX1_found_0 ++ []
theorem dksX1_found_0 : cX1_found.data.toList.drop 0 = dktX1_found_0 := by decide +kernel
theorem dX1_found_0 : decode cX1_found 0 = .ok (.aload_n 0, 1) := dk_42 (dk_at dksX1_found_0 0 rfl rfl)
theorem dX1_found_1 : decode cX1_found 1 = .ok (.getfield 54, 3) := dk_180 0 54 (dk_at dksX1_found_0 1 rfl rfl)
theorem dX1_found_4 : decode cX1_found 4 = .ok (.invokevirtual 133, 3) := dk_182 0 133 (dk_at dksX1_found_0 4 rfl rfl)
theorem dX1_found_7 : decode cX1_found 7 = .ok (.ireturn, 1) := dk_172 (dk_at dksX1_found_0 7 rfl rfl)
abbrev mX1_found : sd_Y := (yX1_found, cX1_found, 1, some (.int), none)
def fX1_found (G : sd_G) (a0 : Nat) : sd_M Int32 :=
  sd_bnd (sd_getR G 0 2 a0) fun v1 =>
  sd_bnd (sd_isC G 2 v1) fun _ =>
  sd_bnd (fX3_found G v1) fun r2 =>
  sd_ret r2
set_option maxHeartbeats 4000000 in
theorem sX1_found (l : Launch) (G : sd_G) (a0 : Nat) (h : sd_H) (ρ : Int32) (cT : Nat × Nat) (h2 : sd_H) (hf : fX1_found G a0 h = some (ρ, cT, h2)) : sd_Met mX1_found ((l, G), (2, 42), [.ref a0], (sd_oI ρ, h2), cT) h := by
  refine sd_entry (plainFor_of_name rfl) rfl (Nat.le_of_ble_eq_true rfl) ?_
  show sd_J mX1_found ((l, G), (2, 42), [.ref a0], (sd_oI ρ, h2), cT) 0 [(0, .ref a0)] [] h cT
  unfold fX1_found at hf
  refine sj_aload_n 0 dX1_found_0 rfl ?_
  refine sj_getR fdX1_54_0 hf dX1_found_1 (fun v1 hf => ?_)
  obtain ⟨fs4, he4, hf⟩ := sd_isC_some hf
  refine sj_cI (rest := []) (fun _ _ _ e => sj_runV (n := 0) (As := []) (rest := []) (sX3_found l G v1 h _ _ _ e) he4 rfl rfl rfl rfl q2125 q2126 q2127 q118 q2128 (by decide +kernel) rfl rfl ⟨Nat.le_of_ble_eq_true rfl, Nat.le_of_ble_eq_true rfl⟩ rfl (Nat.le_of_ble_eq_true rfl) dX1_found_4) hf (fun r2 h c hf => ?_)
  exact sj_iret (o := sd_oI) hf rfl rfl rfl dX1_found_7
/-! SofaDig.sureFinds()I -/
abbrev cX1_sureFinds : ByteArray := prog_1_method_23_code
def yX1_sureFinds : MethodName := ⟨RX1, "sureFinds", "()I"⟩
def dkwX1_sureFinds_0 : List UInt8 := [42, 180, 0, 54, 182, 0, 136, 172]
abbrev dktX1_sureFinds_0 : List UInt8 := dkwX1_sureFinds_0 ++ []
theorem dksX1_sureFinds_0 : cX1_sureFinds.data.toList.drop 0 = dktX1_sureFinds_0 := by decide +kernel
theorem dX1_sureFinds_0 : decode cX1_sureFinds 0 = .ok (.aload_n 0, 1) := dk_42 (dk_at dksX1_sureFinds_0 0 rfl rfl)
theorem dX1_sureFinds_1 : decode cX1_sureFinds 1 = .ok (.getfield 54, 3) := dk_180 0 54 (dk_at dksX1_sureFinds_0 1 rfl rfl)
theorem dX1_sureFinds_4 : decode cX1_sureFinds 4 = .ok (.invokevirtual 136, 3) := dk_182 0 136 (dk_at dksX1_sureFinds_0 4 rfl rfl)
theorem dX1_sureFinds_7 : decode cX1_sureFinds 7 = .ok (.ireturn, 1) := dk_172 (dk_at dksX1_sureFinds_0 7 rfl rfl)
abbrev mX1_sureFinds : sd_Y := (yX1_sureFinds, cX1_sureFinds, 1, some (.int), none)
def fX1_sureFinds (G : sd_G) (a0 : Nat) : sd_M Int32 :=
  sd_bnd (sd_getR G 0 2 a0) fun v1 =>
  sd_bnd (sd_isC G 2 v1) fun _ =>
  sd_bnd (fX3_sure G v1) fun r2 =>
  sd_ret r2
set_option maxHeartbeats 4000000 in
theorem sX1_sureFinds (l : Launch) (G : sd_G) (a0 : Nat) (h : sd_H) (ρ : Int32) (cT : Nat × Nat) (h2 : sd_H) (hf : fX1_sureFinds G a0 h = some (ρ, cT, h2)) : sd_Met mX1_sureFinds ((l, G), (2, 42), [.ref a0], (sd_oI ρ, h2), cT) h := by
  refine sd_entry (plainFor_of_name rfl) rfl (Nat.le_of_ble_eq_true rfl) ?_
  show sd_J mX1_sureFinds ((l, G), (2, 42), [.ref a0], (sd_oI ρ, h2), cT) 0 [(0, .ref a0)] [] h cT
  unfold fX1_sureFinds at hf
  refine sj_aload_n 0 dX1_sureFinds_0 rfl ?_
  refine sj_getR fdX1_54_0 hf dX1_sureFinds_1 (fun v1 hf => ?_)
  obtain ⟨fs4, he4, hf⟩ := sd_isC_some hf
  refine sj_cI (rest := []) (fun _ _ _ e => sj_runV (n := 0) (As := []) (rest := []) (sX3_sure l G v1 h _ _ _ e) he4 rfl rfl rfl rfl q2134 q2135 q2136 q118 q2137 (by decide +kernel) rfl rfl ⟨Nat.le_of_ble_eq_true rfl, Nat.le_of_ble_eq_true rfl⟩ rfl (Nat.le_of_ble_eq_true rfl) dX1_sureFinds_4) hf (fun r2 h c hf => ?_)
  exact sj_iret (o := sd_oI) hf rfl rfl rfl dX1_sureFinds_7
/-! SofaDig.props()I -/
abbrev cX1_props : ByteArray := prog_1_method_24_code
def yX1_props : MethodName := ⟨RX1, "props", "()I"⟩
def dkwX1_props_0 : List UInt8 := [42, 180, 0, 54, 182, 0, 139, 172]
abbrev dktX1_props_0 : List UInt8 := dkwX1_props_0 ++ []
theorem dksX1_props_0 : cX1_props.data.toList.drop 0 = dktX1_props_0 := by decide +kernel
theorem dX1_props_0 : decode cX1_props 0 = .ok (.aload_n 0, 1) := dk_42 (dk_at dksX1_props_0 0 rfl rfl)
theorem dX1_props_1 : decode cX1_props 1 = .ok (.getfield 54, 3) := dk_180 0 54 (dk_at dksX1_props_0 1 rfl rfl)
theorem dX1_props_4 : decode cX1_props 4 = .ok (.invokevirtual 139, 3) := dk_182 0 139 (dk_at dksX1_props_0 4 rfl rfl)
theorem dX1_props_7 : decode cX1_props 7 = .ok (.ireturn, 1) := dk_172 (dk_at dksX1_props_0 7 rfl rfl)
abbrev mX1_props : sd_Y := (yX1_props, cX1_props, 1, some (.int), none)
def fX1_props (G : sd_G) (a0 : Nat) : sd_M Int32 :=
  sd_bnd (sd_getR G 0 2 a0) fun v1 =>
  sd_bnd (sd_isC G 2 v1) fun _ =>
  sd_bnd (fX3_props G v1) fun r2 =>
  sd_ret r2
set_option maxHeartbeats 4000000 in
theorem sX1_props (l : Launch) (G : sd_G) (a0 : Nat) (h : sd_H) (ρ : Int32) (cT : Nat × Nat) (h2 : sd_H) (hf : fX1_props G a0 h = some (ρ, cT, h2)) : sd_Met mX1_props ((l, G), (2, 43), [.ref a0], (sd_oI ρ, h2), cT) h := by
  refine sd_entry (plainFor_of_name rfl) rfl (Nat.le_of_ble_eq_true rfl) ?_
  show sd_J mX1_props ((l, G), (2, 43), [.ref a0], (sd_oI ρ, h2), cT) 0 [(0, .ref a0)] [] h cT
  unfold fX1_props at hf
  refine sj_aload_n 0 dX1_props_0 rfl ?_
  refine sj_getR fdX1_54_0 hf dX1_props_1 (fun v1 hf => ?_)
  obtain ⟨fs4, he4, hf⟩ := sd_isC_some hf
  refine sj_cI (rest := []) (fun _ _ _ e => sj_runV (n := 0) (As := []) (rest := []) (sX3_props l G v1 h _ _ _ e) he4 rfl rfl rfl rfl q2142 q2143 q2144 q118 q2145 (by decide +kernel) rfl rfl ⟨Nat.le_of_ble_eq_true rfl, Nat.le_of_ble_eq_true rfl⟩ rfl (Nat.le_of_ble_eq_true rfl) dX1_props_4) hf (fun r2 h c hf => ?_)
  exact sj_iret (o := sd_oI) hf rfl rfl rfl dX1_props_7
/-! SofaDig.slidesBy(I)I -/
abbrev cX1_slidesBy : ByteArray := prog_1_method_47_code
def yX1_slidesBy : MethodName := ⟨RX1, "slidesBy", "(I)I"⟩
def dkwX1_slidesBy_1 : List UInt8 := [180, 0, 54, 180, 0, 130, 100, 172]
abbrev dktX1_slidesBy_1 : List UInt8 := dkwX1_slidesBy_1 ++ []
def dkwX1_slidesBy_0 : List UInt8 := [42, 180, 0, 58, 42, 180, 0, 54, 182, 0, 220, 27, 182, 0, 207, 87, 42, 180, 0, 58, 180, 0, 130, 42]
abbrev dktX1_slidesBy_0 : List UInt8 := dkwX1_slidesBy_0 ++ dktX1_slidesBy_1
theorem dksX1_slidesBy_0 : cX1_slidesBy.data.toList.drop 0 = dktX1_slidesBy_0 := by decide +kernel
theorem dksX1_slidesBy_1 : cX1_slidesBy.data.toList.drop 24 = dktX1_slidesBy_1 := dk_seg dksX1_slidesBy_0 24 rfl rfl
theorem dX1_slidesBy_0 : decode cX1_slidesBy 0 = .ok (.aload_n 0, 1) := dk_42 (dk_at dksX1_slidesBy_0 0 rfl rfl)
theorem dX1_slidesBy_1 : decode cX1_slidesBy 1 = .ok (.getfield 58, 3) := dk_180 0 58 (dk_at dksX1_slidesBy_0 1 rfl rfl)
theorem dX1_slidesBy_4 : decode cX1_slidesBy 4 = .ok (.aload_n 0, 1) := dk_42 (dk_at dksX1_slidesBy_0 4 rfl rfl)
theorem dX1_slidesBy_5 : decode cX1_slidesBy 5 = .ok (.getfield 54, 3) := dk_180 0 54 (dk_at dksX1_slidesBy_0 5 rfl rfl)
theorem dX1_slidesBy_8 : decode cX1_slidesBy 8 = .ok (.invokevirtual 220, 3) := dk_182 0 220 (dk_at dksX1_slidesBy_0 8 rfl rfl)
theorem dX1_slidesBy_11 : decode cX1_slidesBy 11 = .ok (.iload_n 1, 1) := dk_27 (dk_at dksX1_slidesBy_0 11 rfl rfl)
theorem dX1_slidesBy_12 : decode cX1_slidesBy 12 = .ok (.invokevirtual 207, 3) := dk_182 0 207 (dk_at dksX1_slidesBy_0 12 rfl rfl)
theorem dX1_slidesBy_15 : decode cX1_slidesBy 15 = .ok (.pop, 1) := dk_87 (dk_at dksX1_slidesBy_0 15 rfl rfl)
theorem dX1_slidesBy_16 : decode cX1_slidesBy 16 = .ok (.aload_n 0, 1) := dk_42 (dk_at dksX1_slidesBy_0 16 rfl rfl)
theorem dX1_slidesBy_17 : decode cX1_slidesBy 17 = .ok (.getfield 58, 3) := dk_180 0 58 (dk_at dksX1_slidesBy_0 17 rfl rfl)
theorem dX1_slidesBy_20 : decode cX1_slidesBy 20 = .ok (.getfield 130, 3) := dk_180 0 130 (dk_at dksX1_slidesBy_0 20 rfl rfl)
theorem dX1_slidesBy_23 : decode cX1_slidesBy 23 = .ok (.aload_n 0, 1) := dk_42 (dk_at dksX1_slidesBy_0 23 rfl rfl)
theorem dX1_slidesBy_24 : decode cX1_slidesBy 24 = .ok (.getfield 54, 3) := dk_180 0 54 (dk_at dksX1_slidesBy_1 0 rfl rfl)
theorem dX1_slidesBy_27 : decode cX1_slidesBy 27 = .ok (.getfield 130, 3) := dk_180 0 130 (dk_at dksX1_slidesBy_1 3 rfl rfl)
theorem dX1_slidesBy_30 : decode cX1_slidesBy 30 = .ok (.isub, 1) := dk_100 (dk_at dksX1_slidesBy_1 6 rfl rfl)
theorem dX1_slidesBy_31 : decode cX1_slidesBy 31 = .ok (.ireturn, 1) := dk_172 (dk_at dksX1_slidesBy_1 7 rfl rfl)
theorem fdX1_58_0 : sd_Fd "SofaDig" 58 0 3 := ⟨(RX1, TX1, 4), "SofaDig", rfl, by decide, rfl, in_X1, Or.inl rfl, Or.inl q442⟩
abbrev mX1_slidesBy : sd_Y := (yX1_slidesBy, cX1_slidesBy, 2, some (.int), none)
def fX1_slidesBy (G : sd_G) (a0 : Nat) (a1 : Int32) : sd_M Int32 :=
  sd_bnd (sd_getR G 0 3 a0) fun v1 =>
  sd_bnd (sd_getR G 0 2 a0) fun v2 =>
  sd_bnd (sd_isC G 2 v1) fun _ =>
  sd_bnd (fX3_take G v1 v2) fun r3 =>
  sd_bnd (sd_isC G 2 r3) fun _ =>
  sd_bnd (fX3_dig G r3 a1) fun r4 =>
  sd_bnd (sd_getR G 0 3 a0) fun v5 =>
  sd_bnd (sd_getI G 2 11 v5) fun v6 =>
  sd_bnd (sd_getR G 0 2 a0) fun v7 =>
  sd_bnd (sd_getI G 2 11 v7) fun v8 =>
  sd_ret (v6 - v8)
set_option maxHeartbeats 4000000 in
theorem sX1_slidesBy (l : Launch) (G : sd_G) (a0 : Nat) (a1 : Int32) (h : sd_H) (ρ : Int32) (cT : Nat × Nat) (h2 : sd_H) (hf : fX1_slidesBy G a0 a1 h = some (ρ, cT, h2)) : sd_Met mX1_slidesBy ((l, G), (9, 197), [.ref a0, .int a1], (sd_oI ρ, h2), cT) h := by
  refine sd_entry (plainFor_of_name rfl) rfl (Nat.le_of_ble_eq_true rfl) ?_
  show sd_J mX1_slidesBy ((l, G), (9, 197), [.ref a0, .int a1], (sd_oI ρ, h2), cT) 0 [(0, .ref a0), (1, .int a1)] [] h cT
  unfold fX1_slidesBy at hf
  refine sj_aload_n 0 dX1_slidesBy_0 rfl ?_
  refine sj_getR fdX1_58_0 hf dX1_slidesBy_1 (fun v1 hf => ?_)
  refine sj_aload_n 0 dX1_slidesBy_4 rfl ?_
  refine sj_getR fdX1_54_0 hf dX1_slidesBy_5 (fun v2 hf => ?_)
  obtain ⟨fs8, he8, hf⟩ := sd_isC_some hf
  refine sj_cR (rest := []) (fun _ _ _ e => sj_runV (n := 1) (As := [.ref v2]) (rest := []) (sX3_take l G v1 v2 h _ _ _ e) he8 rfl rfl rfl rfl q2163 q2164 q2165 q118 q2166 (by decide +kernel) rfl rfl ⟨Nat.le_of_ble_eq_true rfl, Nat.le_of_ble_eq_true rfl⟩ rfl (Nat.le_of_ble_eq_true rfl) dX1_slidesBy_8) hf (fun r3 h c hf => ?_)
  refine sj_iload_n 1 dX1_slidesBy_11 rfl ?_
  obtain ⟨fs12, he12, hf⟩ := sd_isC_some hf
  refine sj_cI (rest := []) (fun _ _ _ e => sj_runV (n := 1) (As := [.int a1]) (rest := []) (sX3_dig l G r3 a1 h _ _ _ e) he12 rfl rfl rfl rfl q2235 q2236 q2237 q118 q2238 (by decide +kernel) rfl rfl ⟨Nat.le_of_ble_eq_true rfl, Nat.le_of_ble_eq_true rfl⟩ rfl (Nat.le_of_ble_eq_true rfl) dX1_slidesBy_12) hf (fun r4 h c hf => ?_)
  refine sj_pop dX1_slidesBy_15 rfl ?_
  refine sj_aload_n 0 dX1_slidesBy_16 rfl ?_
  refine sj_getR fdX1_58_0 hf dX1_slidesBy_17 (fun v5 hf => ?_)
  refine sj_getI fdX1_130_2 hf dX1_slidesBy_20 (fun v6 hf => ?_)
  refine sj_aload_n 0 dX1_slidesBy_23 rfl ?_
  refine sj_getR fdX1_54_0 hf dX1_slidesBy_24 (fun v7 hf => ?_)
  refine sj_getI fdX1_130_2 hf dX1_slidesBy_27 (fun v8 hf => ?_)
  refine sj_isub dX1_slidesBy_30 ?_
  exact sj_iret (o := sd_oI) hf rfl rfl rfl dX1_slidesBy_31
/-! SofaDig.bestDig()I -/
abbrev cX1_bestDig : ByteArray := prog_1_method_49_code
def yX1_bestDig : MethodName := ⟨RX1, "bestDig", "()I"⟩
def dkwX1_bestDig_3 : List UInt8 := [182, 0, 168, 163, 0, 6, 167, 0, 8, 29, 60, 21, 4, 61, 132, 3, 1, 167, 255, 177, 27, 172]
abbrev dktX1_bestDig_3 : List UInt8 := dkwX1_bestDig_3 ++ []
def dkwX1_bestDig_2 : List UInt8 := [163, 0, 36, 21, 4, 28, 160, 0, 25, 42, 180, 0, 54, 29, 182, 0, 168, 42, 180, 0, 54, 27]
abbrev dktX1_bestDig_2 : List UInt8 := dkwX1_bestDig_2 ++ dktX1_bestDig_3
def dkwX1_bestDig_1 : List UInt8 := [182, 0, 102, 154, 0, 6, 167, 0, 54, 42, 29, 182, 0, 224, 54, 4, 27, 2, 159, 0, 37, 21, 4, 28]
abbrev dktX1_bestDig_1 : List UInt8 := dkwX1_bestDig_1 ++ dktX1_bestDig_2
def dkwX1_bestDig_0 : List UInt8 := [2, 60, 3, 61, 3, 62, 29, 42, 180, 0, 54, 180, 0, 99, 162, 0, 74, 42, 180, 0, 54, 29]
abbrev dktX1_bestDig_0 : List UInt8 := dkwX1_bestDig_0 ++ dktX1_bestDig_1
theorem dksX1_bestDig_0 : cX1_bestDig.data.toList.drop 0 = dktX1_bestDig_0 := by decide +kernel
theorem dksX1_bestDig_1 : cX1_bestDig.data.toList.drop 22 = dktX1_bestDig_1 := dk_seg dksX1_bestDig_0 22 rfl rfl
theorem dksX1_bestDig_2 : cX1_bestDig.data.toList.drop 46 = dktX1_bestDig_2 := dk_seg dksX1_bestDig_1 24 rfl rfl
theorem dksX1_bestDig_3 : cX1_bestDig.data.toList.drop 68 = dktX1_bestDig_3 := dk_seg dksX1_bestDig_2 22 rfl rfl
theorem dX1_bestDig_0 : decode cX1_bestDig 0 = .ok (.iconst (-1), 1) := dk_2 (dk_at dksX1_bestDig_0 0 rfl rfl)
theorem dX1_bestDig_1 : decode cX1_bestDig 1 = .ok (.istore_n 1, 1) := dk_60 (dk_at dksX1_bestDig_0 1 rfl rfl)
theorem dX1_bestDig_2 : decode cX1_bestDig 2 = .ok (.iconst 0, 1) := dk_3 (dk_at dksX1_bestDig_0 2 rfl rfl)
theorem dX1_bestDig_3 : decode cX1_bestDig 3 = .ok (.istore_n 2, 1) := dk_61 (dk_at dksX1_bestDig_0 3 rfl rfl)
theorem dX1_bestDig_4 : decode cX1_bestDig 4 = .ok (.iconst 0, 1) := dk_3 (dk_at dksX1_bestDig_0 4 rfl rfl)
theorem dX1_bestDig_5 : decode cX1_bestDig 5 = .ok (.istore_n 3, 1) := dk_62 (dk_at dksX1_bestDig_0 5 rfl rfl)
theorem dX1_bestDig_6 : decode cX1_bestDig 6 = .ok (.iload_n 3, 1) := dk_29 (dk_at dksX1_bestDig_0 6 rfl rfl)
theorem dX1_bestDig_7 : decode cX1_bestDig 7 = .ok (.aload_n 0, 1) := dk_42 (dk_at dksX1_bestDig_0 7 rfl rfl)
theorem dX1_bestDig_8 : decode cX1_bestDig 8 = .ok (.getfield 54, 3) := dk_180 0 54 (dk_at dksX1_bestDig_0 8 rfl rfl)
theorem dX1_bestDig_11 : decode cX1_bestDig 11 = .ok (.getfield 99, 3) := dk_180 0 99 (dk_at dksX1_bestDig_0 11 rfl rfl)
theorem dX1_bestDig_14 : decode cX1_bestDig 14 = .ok (.if_icmp .ge 74, 3) := dk_162 0 74 (dk_at dksX1_bestDig_0 14 rfl rfl)
theorem dX1_bestDig_17 : decode cX1_bestDig 17 = .ok (.aload_n 0, 1) := dk_42 (dk_at dksX1_bestDig_0 17 rfl rfl)
theorem dX1_bestDig_18 : decode cX1_bestDig 18 = .ok (.getfield 54, 3) := dk_180 0 54 (dk_at dksX1_bestDig_0 18 rfl rfl)
theorem dX1_bestDig_21 : decode cX1_bestDig 21 = .ok (.iload_n 3, 1) := dk_29 (dk_at dksX1_bestDig_0 21 rfl rfl)
theorem dX1_bestDig_22 : decode cX1_bestDig 22 = .ok (.invokevirtual 102, 3) := dk_182 0 102 (dk_at dksX1_bestDig_1 0 rfl rfl)
theorem dX1_bestDig_25 : decode cX1_bestDig 25 = .ok (.ifCond .ne 6, 3) := dk_154 0 6 (dk_at dksX1_bestDig_1 3 rfl rfl)
theorem dX1_bestDig_28 : decode cX1_bestDig 28 = .ok (.goto 54, 3) := dk_167 0 54 (dk_at dksX1_bestDig_1 6 rfl rfl)
theorem dX1_bestDig_31 : decode cX1_bestDig 31 = .ok (.aload_n 0, 1) := dk_42 (dk_at dksX1_bestDig_1 9 rfl rfl)
theorem dX1_bestDig_32 : decode cX1_bestDig 32 = .ok (.iload_n 3, 1) := dk_29 (dk_at dksX1_bestDig_1 10 rfl rfl)
theorem dX1_bestDig_33 : decode cX1_bestDig 33 = .ok (.invokevirtual 224, 3) := dk_182 0 224 (dk_at dksX1_bestDig_1 11 rfl rfl)
theorem dX1_bestDig_36 : decode cX1_bestDig 36 = .ok (.istore 4, 2) := dk_54 4 (dk_at dksX1_bestDig_1 14 rfl rfl)
theorem dX1_bestDig_38 : decode cX1_bestDig 38 = .ok (.iload_n 1, 1) := dk_27 (dk_at dksX1_bestDig_1 16 rfl rfl)
theorem dX1_bestDig_39 : decode cX1_bestDig 39 = .ok (.iconst (-1), 1) := dk_2 (dk_at dksX1_bestDig_1 17 rfl rfl)
theorem dX1_bestDig_40 : decode cX1_bestDig 40 = .ok (.if_icmp .eq 37, 3) := dk_159 0 37 (dk_at dksX1_bestDig_1 18 rfl rfl)
theorem dX1_bestDig_43 : decode cX1_bestDig 43 = .ok (.iload 4, 2) := dk_21 4 (dk_at dksX1_bestDig_1 21 rfl rfl)
theorem dX1_bestDig_45 : decode cX1_bestDig 45 = .ok (.iload_n 2, 1) := dk_28 (dk_at dksX1_bestDig_1 23 rfl rfl)
theorem dX1_bestDig_46 : decode cX1_bestDig 46 = .ok (.if_icmp .gt 36, 3) := dk_163 0 36 (dk_at dksX1_bestDig_2 0 rfl rfl)
theorem dX1_bestDig_49 : decode cX1_bestDig 49 = .ok (.iload 4, 2) := dk_21 4 (dk_at dksX1_bestDig_2 3 rfl rfl)
theorem dX1_bestDig_51 : decode cX1_bestDig 51 = .ok (.iload_n 2, 1) := dk_28 (dk_at dksX1_bestDig_2 5 rfl rfl)
theorem dX1_bestDig_52 : decode cX1_bestDig 52 = .ok (.if_icmp .ne 25, 3) := dk_160 0 25 (dk_at dksX1_bestDig_2 6 rfl rfl)
theorem dX1_bestDig_55 : decode cX1_bestDig 55 = .ok (.aload_n 0, 1) := dk_42 (dk_at dksX1_bestDig_2 9 rfl rfl)
theorem dX1_bestDig_56 : decode cX1_bestDig 56 = .ok (.getfield 54, 3) := dk_180 0 54 (dk_at dksX1_bestDig_2 10 rfl rfl)
theorem dX1_bestDig_59 : decode cX1_bestDig 59 = .ok (.iload_n 3, 1) := dk_29 (dk_at dksX1_bestDig_2 13 rfl rfl)
theorem dX1_bestDig_60 : decode cX1_bestDig 60 = .ok (.invokevirtual 168, 3) := dk_182 0 168 (dk_at dksX1_bestDig_2 14 rfl rfl)
theorem dX1_bestDig_63 : decode cX1_bestDig 63 = .ok (.aload_n 0, 1) := dk_42 (dk_at dksX1_bestDig_2 17 rfl rfl)
theorem dX1_bestDig_64 : decode cX1_bestDig 64 = .ok (.getfield 54, 3) := dk_180 0 54 (dk_at dksX1_bestDig_2 18 rfl rfl)
theorem dX1_bestDig_67 : decode cX1_bestDig 67 = .ok (.iload_n 1, 1) := dk_27 (dk_at dksX1_bestDig_2 21 rfl rfl)
theorem dX1_bestDig_68 : decode cX1_bestDig 68 = .ok (.invokevirtual 168, 3) := dk_182 0 168 (dk_at dksX1_bestDig_3 0 rfl rfl)
theorem dX1_bestDig_71 : decode cX1_bestDig 71 = .ok (.if_icmp .gt 6, 3) := dk_163 0 6 (dk_at dksX1_bestDig_3 3 rfl rfl)
theorem dX1_bestDig_74 : decode cX1_bestDig 74 = .ok (.goto 8, 3) := dk_167 0 8 (dk_at dksX1_bestDig_3 6 rfl rfl)
theorem dX1_bestDig_77 : decode cX1_bestDig 77 = .ok (.iload_n 3, 1) := dk_29 (dk_at dksX1_bestDig_3 9 rfl rfl)
theorem dX1_bestDig_78 : decode cX1_bestDig 78 = .ok (.istore_n 1, 1) := dk_60 (dk_at dksX1_bestDig_3 10 rfl rfl)
theorem dX1_bestDig_79 : decode cX1_bestDig 79 = .ok (.iload 4, 2) := dk_21 4 (dk_at dksX1_bestDig_3 11 rfl rfl)
theorem dX1_bestDig_81 : decode cX1_bestDig 81 = .ok (.istore_n 2, 1) := dk_61 (dk_at dksX1_bestDig_3 13 rfl rfl)
theorem dX1_bestDig_82 : decode cX1_bestDig 82 = .ok (.iinc 3 1, 3) := dk_132 3 1 (dk_at dksX1_bestDig_3 14 rfl rfl)
theorem dX1_bestDig_85 : decode cX1_bestDig 85 = .ok (.goto (-79), 3) := dk_167 255 177 (dk_at dksX1_bestDig_3 17 rfl rfl)
theorem dX1_bestDig_88 : decode cX1_bestDig 88 = .ok (.iload_n 1, 1) := dk_27 (dk_at dksX1_bestDig_3 20 rfl rfl)
theorem dX1_bestDig_89 : decode cX1_bestDig 89 = .ok (.ireturn, 1) := dk_172 (dk_at dksX1_bestDig_3 21 rfl rfl)
abbrev mX1_bestDig : sd_Y := (yX1_bestDig, cX1_bestDig, 5, some (.int), none)
def fX1_bestDig_b6 (G : sd_G) (k6 : Nat × Int32 × Int32 × Int32 → sd_M Int32) (w0 : Nat) (w1 : Int32) (w2 : Int32) (w3 : Int32) : sd_M Int32 :=
  sd_bnd (sd_getR G 0 2 w0) fun v1 =>
  sd_bnd (sd_getI G 2 1 v1) fun v2 =>
  if v2 ≤ w3 then (
    sd_ret w1)
  else (
    sd_bnd (sd_getR G 0 2 w0) fun v3 =>
    sd_bnd (sd_isC G 2 v3) fun _ =>
    sd_bnd (fX3_height G v3 w3) fun r4 =>
    if r4 = 0 then (
      sd_bnd (sd_ret (w3 + 1)) fun x15 =>
      k6 (w0, w1, w2, x15))
    else (
      sd_bnd (sd_isC G 0 w0) fun _ =>
      sd_bnd (fX1_slidesBy G w0 w3) fun r5 =>
      if w1 = (-1) then (
        sd_bnd (sd_ret (w3 + 1)) fun x6 =>
        k6 (w0, w3, r5, x6))
      else (
        if w2 < r5 then (
          sd_bnd (sd_ret (w3 + 1)) fun x7 =>
          k6 (w0, w1, w2, x7))
        else (
          if r5 = w2 then (
            sd_bnd (sd_getR G 0 2 w0) fun v9 =>
            sd_bnd (sd_isC G 2 v9) fun _ =>
            sd_bnd (fX3_left G v9 w3) fun r10 =>
            sd_bnd (sd_getR G 0 2 w0) fun v11 =>
            sd_bnd (sd_isC G 2 v11) fun _ =>
            sd_bnd (fX3_left G v11 w1) fun r12 =>
            if r12 < r10 then (
              sd_bnd (sd_ret (w3 + 1)) fun x13 =>
              k6 (w0, w3, r5, x13))
            else (
              sd_bnd (sd_ret (w3 + 1)) fun x14 =>
              k6 (w0, w1, w2, x14)))
          else (
            sd_bnd (sd_ret (w3 + 1)) fun x8 =>
            k6 (w0, w3, r5, x8))))))
set_option maxHeartbeats 4000000 in
theorem sX1_bestDig_b6 (l : Launch) (G : sd_G) (a0 : Nat) (ρ : Int32) (h2 : sd_H) (cT : Nat × Nat) (k6 : Nat × Int32 × Int32 × Int32 → sd_M Int32) (Hk6 : ∀ (q : Nat × Int32 × Int32 × Int32) (h : sd_H) (c : Nat × Nat), k6 q h = some (ρ, c, h2) → sd_J mX1_bestDig ((l, G), (10, 218), [.ref a0], (sd_oI ρ, h2), cT) 6 [(0, .ref q.1), (1, .int q.2.1), (2, .int q.2.2.1), (3, .int q.2.2.2)] [] h c) (w0 : Nat) (w1 : Int32) (w2 : Int32) (w3 : Int32) (h : sd_H) (c : Nat × Nat) (hf : fX1_bestDig_b6 G k6 w0 w1 w2 w3 h = some (ρ, c, h2)) : sd_J mX1_bestDig ((l, G), (10, 218), [.ref a0], (sd_oI ρ, h2), cT) 6 [(0, .ref w0), (1, .int w1), (2, .int w2), (3, .int w3)] [] h c := by
  unfold fX1_bestDig_b6 at hf
  refine sj_iload_n 3 dX1_bestDig_6 rfl ?_
  refine sj_aload_n 0 dX1_bestDig_7 rfl ?_
  refine sj_getR fdX1_54_0 hf dX1_bestDig_8 (fun v1 hf => ?_)
  refine sj_getI fdX1_99_2 hf dX1_bestDig_11 (fun v2 hf => ?_)
  refine sj_icge 88 hf dX1_bestDig_14 (by decide) (fun g14 hf => ?_) (fun g14 hf => ?_)
  · refine sj_iload_n 1 dX1_bestDig_88 rfl ?_
    exact sj_iret (o := sd_oI) hf rfl rfl rfl dX1_bestDig_89
  · refine sj_aload_n 0 dX1_bestDig_17 rfl ?_
    refine sj_getR fdX1_54_0 hf dX1_bestDig_18 (fun v3 hf => ?_)
    refine sj_iload_n 3 dX1_bestDig_21 rfl ?_
    obtain ⟨fs22, he22, hf⟩ := sd_isC_some hf
    refine sj_cI (rest := []) (fun _ _ _ e => sj_runV (n := 1) (As := [.int w3]) (rest := []) (sX3_height l G v3 w3 h _ _ _ e) he22 rfl rfl rfl rfl q2154 q2155 q2156 q118 q2157 (by decide +kernel) rfl rfl ⟨Nat.le_of_ble_eq_true rfl, Nat.le_of_ble_eq_true rfl⟩ rfl (Nat.le_of_ble_eq_true rfl) dX1_bestDig_22) hf (fun r4 h c hf => ?_)
    refine sj_ifne 31 hf dX1_bestDig_25 (by decide) (fun g25 hf => ?_) (fun g25 hf => ?_)
    · refine sj_aload_n 0 dX1_bestDig_31 rfl ?_
      refine sj_iload_n 3 dX1_bestDig_32 rfl ?_
      obtain ⟨fs33, he33, hf⟩ := sd_isC_some hf
      refine sj_cI (rest := []) (fun _ _ _ e => sj_runV (n := 1) (As := [.int w3]) (rest := []) (sX1_slidesBy l G w0 w3 h _ _ _ e) he33 rfl rfl rfl rfl q2159 q2161 qs32 q116 q2162 (by decide +kernel) rfl rfl ⟨Nat.le_of_ble_eq_true rfl, Nat.le_of_ble_eq_true rfl⟩ rfl (Nat.le_of_ble_eq_true rfl) dX1_bestDig_33) hf (fun r5 h c hf => ?_)
      refine sj_istore [(4, .int r5), (0, .ref w0), (1, .int w1), (2, .int w2), (3, .int w3)] dX1_bestDig_36 (by decide) rfl ?_
      refine sj_iload_n 2 dX1_bestDig_38 rfl ?_
      refine sj_iconst (v := (-1)) dX1_bestDig_39 (by decide) ?_
      refine sj_iceq 77 hf dX1_bestDig_40 (by decide) (fun g40 hf => ?_) (fun g40 hf => ?_)
      · refine sj_iload_n 4 dX1_bestDig_77 rfl ?_
        refine sj_istore_n [(1, .int w3), (4, .int r5), (0, .ref w0), (2, .int w2), (3, .int w3)] dX1_bestDig_78 (by decide) rfl ?_
        refine sj_iload 1 dX1_bestDig_79 rfl ?_
        refine sj_istore_n [(2, .int r5), (1, .int w3), (4, .int r5), (0, .ref w0), (3, .int w3)] dX1_bestDig_81 (by decide) rfl ?_
        refine sj_iincN 4 (fun x6 => [(3, .int x6), (2, .int r5), (1, .int w3), (4, .int r5), (0, .ref w0)]) 1 hf dX1_bestDig_82 rfl (by decide) (by decide) (fun _ => rfl) (fun x6 hf => ?_)
        refine sj_goto 6 dX1_bestDig_85 (by decide) ?_
        exact sj_loc [4, 2, 1, 0] rfl (Hk6 (w0, w3, r5, x6) _ _ hf)
      · refine sj_iload 0 dX1_bestDig_43 rfl ?_
        refine sj_iload_n 3 dX1_bestDig_45 rfl ?_
        refine sj_icgt 82 hf dX1_bestDig_46 (by decide) (fun g46 hf => ?_) (fun g46 hf => ?_)
        · refine sj_iincN 4 (fun x7 => [(3, .int x7), (4, .int r5), (0, .ref w0), (1, .int w1), (2, .int w2)]) 1 hf dX1_bestDig_82 rfl (by decide) (by decide) (fun _ => rfl) (fun x7 hf => ?_)
          refine sj_goto 6 dX1_bestDig_85 (by decide) ?_
          exact sj_loc [2, 3, 4, 0] rfl (Hk6 (w0, w1, w2, x7) _ _ hf)
        · refine sj_iload 0 dX1_bestDig_49 rfl ?_
          refine sj_iload_n 3 dX1_bestDig_51 rfl ?_
          refine sj_icne 77 hf dX1_bestDig_52 (by decide) (fun g52 hf => ?_) (fun g52 hf => ?_)
          · refine sj_iload_n 4 dX1_bestDig_77 rfl ?_
            refine sj_istore_n [(1, .int w3), (4, .int r5), (0, .ref w0), (2, .int w2), (3, .int w3)] dX1_bestDig_78 (by decide) rfl ?_
            refine sj_iload 1 dX1_bestDig_79 rfl ?_
            refine sj_istore_n [(2, .int r5), (1, .int w3), (4, .int r5), (0, .ref w0), (3, .int w3)] dX1_bestDig_81 (by decide) rfl ?_
            refine sj_iincN 4 (fun x8 => [(3, .int x8), (2, .int r5), (1, .int w3), (4, .int r5), (0, .ref w0)]) 1 hf dX1_bestDig_82 rfl (by decide) (by decide) (fun _ => rfl) (fun x8 hf => ?_)
            refine sj_goto 6 dX1_bestDig_85 (by decide) ?_
            exact sj_loc [4, 2, 1, 0] rfl (Hk6 (w0, w3, r5, x8) _ _ hf)
          · refine sj_aload_n 1 dX1_bestDig_55 rfl ?_
            refine sj_getR fdX1_54_0 hf dX1_bestDig_56 (fun v9 hf => ?_)
            refine sj_iload_n 4 dX1_bestDig_59 rfl ?_
            obtain ⟨fs60, he60, hf⟩ := sd_isC_some hf
            refine sj_cI (rest := []) (fun _ _ _ e => sj_runV (n := 1) (As := [.int w3]) (rest := []) (sX3_left l G v9 w3 h _ _ _ e) he60 rfl rfl rfl rfl q2264 q2265 q2266 q118 q2267 (by decide +kernel) rfl rfl ⟨Nat.le_of_ble_eq_true rfl, Nat.le_of_ble_eq_true rfl⟩ rfl (Nat.le_of_ble_eq_true rfl) dX1_bestDig_60) hf (fun r10 h c hf => ?_)
            refine sj_aload_n 1 dX1_bestDig_63 rfl ?_
            refine sj_getR fdX1_54_0 hf dX1_bestDig_64 (fun v11 hf => ?_)
            refine sj_iload_n 2 dX1_bestDig_67 rfl ?_
            obtain ⟨fs68, he68, hf⟩ := sd_isC_some hf
            refine sj_cI (rest := [.int r10]) (fun _ _ _ e => sj_runV (n := 1) (As := [.int w1]) (rest := [.int r10]) (sX3_left l G v11 w1 h _ _ _ e) he68 rfl rfl rfl rfl q2264 q2265 q2266 q118 q2267 (by decide +kernel) rfl rfl ⟨Nat.le_of_ble_eq_true rfl, Nat.le_of_ble_eq_true rfl⟩ rfl (Nat.le_of_ble_eq_true rfl) dX1_bestDig_68) hf (fun r12 h c hf => ?_)
            refine sj_icgt 77 hf dX1_bestDig_71 (by decide) (fun g71 hf => ?_) (fun g71 hf => ?_)
            · refine sj_iload_n 4 dX1_bestDig_77 rfl ?_
              refine sj_istore_n [(1, .int w3), (4, .int r5), (0, .ref w0), (2, .int w2), (3, .int w3)] dX1_bestDig_78 (by decide) rfl ?_
              refine sj_iload 1 dX1_bestDig_79 rfl ?_
              refine sj_istore_n [(2, .int r5), (1, .int w3), (4, .int r5), (0, .ref w0), (3, .int w3)] dX1_bestDig_81 (by decide) rfl ?_
              refine sj_iincN 4 (fun x13 => [(3, .int x13), (2, .int r5), (1, .int w3), (4, .int r5), (0, .ref w0)]) 1 hf dX1_bestDig_82 rfl (by decide) (by decide) (fun _ => rfl) (fun x13 hf => ?_)
              refine sj_goto 6 dX1_bestDig_85 (by decide) ?_
              exact sj_loc [4, 2, 1, 0] rfl (Hk6 (w0, w3, r5, x13) _ _ hf)
            · refine sj_goto 82 dX1_bestDig_74 (by decide) ?_
              refine sj_iincN 4 (fun x14 => [(3, .int x14), (4, .int r5), (0, .ref w0), (1, .int w1), (2, .int w2)]) 1 hf dX1_bestDig_82 rfl (by decide) (by decide) (fun _ => rfl) (fun x14 hf => ?_)
              refine sj_goto 6 dX1_bestDig_85 (by decide) ?_
              exact sj_loc [2, 3, 4, 0] rfl (Hk6 (w0, w1, w2, x14) _ _ hf)
    · refine sj_goto 82 dX1_bestDig_28 (by decide) ?_
      refine sj_iincN 3 (fun x15 => [(3, .int x15), (0, .ref w0), (1, .int w1), (2, .int w2)]) 1 hf dX1_bestDig_82 rfl (by decide) (by decide) (fun _ => rfl) (fun x15 hf => ?_)
      refine sj_goto 6 dX1_bestDig_85 (by decide) ?_
      exact sj_loc [1, 2, 3, 0] rfl (Hk6 (w0, w1, w2, x15) _ _ hf)
theorem sX1_bestDig_b6_loop (l : Launch) (G : sd_G) (a0 : Nat) (ρ : Int32) (h2 : sd_H) (cT : Nat × Nat) (n : Nat) : ∀ (q : Nat × Int32 × Int32 × Int32) (h : sd_H) (c : Nat × Nat), sd_loop (fun k s => fX1_bestDig_b6 G k s.1 s.2.1 s.2.2.1 s.2.2.2) n q h = some (ρ, c, h2) → sd_J mX1_bestDig ((l, G), (10, 218), [.ref a0], (sd_oI ρ, h2), cT) 6 [(0, .ref q.1), (1, .int q.2.1), (2, .int q.2.2.1), (3, .int q.2.2.2)] [] h c := by
  induction n with
  | zero => intro q h c hf; cases hf
  | succ n ih => intro q h c hf; exact sX1_bestDig_b6 l G a0 ρ h2 cT _ ih _ _ _ _ _ _ hf
def fX1_bestDig (G : sd_G) (a0 : Nat) : sd_M Int32 :=
  sd_loop (fun k s => fX1_bestDig_b6 G k s.1 s.2.1 s.2.2.1 s.2.2.2) sd_FU (a0, (-1), 0, 0)
set_option maxHeartbeats 4000000 in
theorem sX1_bestDig (l : Launch) (G : sd_G) (a0 : Nat) (h : sd_H) (ρ : Int32) (cT : Nat × Nat) (h2 : sd_H) (hf : fX1_bestDig G a0 h = some (ρ, cT, h2)) : sd_Met mX1_bestDig ((l, G), (10, 218), [.ref a0], (sd_oI ρ, h2), cT) h := by
  refine sd_entry (plainFor_of_name rfl) rfl (Nat.le_of_ble_eq_true rfl) ?_
  show sd_J mX1_bestDig ((l, G), (10, 218), [.ref a0], (sd_oI ρ, h2), cT) 0 [(0, .ref a0)] [] h cT
  unfold fX1_bestDig at hf
  refine sj_iconst (v := (-1)) dX1_bestDig_0 (by decide) ?_
  refine sj_istore_n [(1, .int (-1)), (0, .ref a0)] dX1_bestDig_1 (by decide) rfl ?_
  refine sj_iconst (v := 0) dX1_bestDig_2 (by decide) ?_
  refine sj_istore_n [(2, .int 0), (1, .int (-1)), (0, .ref a0)] dX1_bestDig_3 (by decide) rfl ?_
  refine sj_iconst (v := 0) dX1_bestDig_4 (by decide) ?_
  refine sj_istore_n [(3, .int 0), (2, .int 0), (1, .int (-1)), (0, .ref a0)] dX1_bestDig_5 (by decide) rfl ?_
  exact sj_loc [3, 2, 1, 0] rfl (sX1_bestDig_b6_loop l G a0 ρ h2 cT sd_FU (a0, (-1), 0, 0) _ _ hf)
/-! SofaDig.meanYear()D -/
abbrev cX1_meanYear : ByteArray := prog_1_method_50_code
def yX1_meanYear : MethodName := ⟨RX1, "meanYear", "()D"⟩
def dkwX1_meanYear_0 : List UInt8 := [42, 180, 0, 54, 182, 0, 227, 175]
abbrev dktX1_meanYear_0 : List UInt8 := dkwX1_meanYear_0 ++ []
theorem dksX1_meanYear_0 : cX1_meanYear.data.toList.drop 0 = dktX1_meanYear_0 := by decide +kernel
theorem dX1_meanYear_0 : decode cX1_meanYear 0 = .ok (.aload_n 0, 1) := dk_42 (dk_at dksX1_meanYear_0 0 rfl rfl)
theorem dX1_meanYear_1 : decode cX1_meanYear 1 = .ok (.getfield 54, 3) := dk_180 0 54 (dk_at dksX1_meanYear_0 1 rfl rfl)
theorem dX1_meanYear_4 : decode cX1_meanYear 4 = .ok (.invokevirtual 227, 3) := dk_182 0 227 (dk_at dksX1_meanYear_0 4 rfl rfl)
theorem dX1_meanYear_7 : decode cX1_meanYear 7 = .ok (.dreturn, 1) := dk_175 (dk_at dksX1_meanYear_0 7 rfl rfl)
abbrev mX1_meanYear : sd_Y := (yX1_meanYear, cX1_meanYear, 1, some (.double), none)
def fX1_meanYear (G : sd_G) (a0 : Nat) : sd_M UInt64 :=
  sd_bnd (sd_getR G 0 2 a0) fun v1 =>
  sd_bnd (sd_isC G 2 v1) fun _ =>
  sd_bnd (fX3_meanYear G v1) fun r2 =>
  sd_ret r2
set_option maxHeartbeats 4000000 in
theorem sX1_meanYear (l : Launch) (G : sd_G) (a0 : Nat) (h : sd_H) (ρ : UInt64) (cT : Nat × Nat) (h2 : sd_H) (hf : fX1_meanYear G a0 h = some (ρ, cT, h2)) : sd_Met mX1_meanYear ((l, G), (4, 87), [.ref a0], (sd_oD ρ, h2), cT) h := by
  refine sd_entry (plainFor_of_name rfl) rfl (Nat.le_of_ble_eq_true rfl) ?_
  show sd_J mX1_meanYear ((l, G), (4, 87), [.ref a0], (sd_oD ρ, h2), cT) 0 [(0, .ref a0)] [] h cT
  unfold fX1_meanYear at hf
  refine sj_aload_n 0 dX1_meanYear_0 rfl ?_
  refine sj_getR fdX1_54_0 hf dX1_meanYear_1 (fun v1 hf => ?_)
  obtain ⟨fs4, he4, hf⟩ := sd_isC_some hf
  refine sj_cD (rest := []) (fun _ _ _ e => sj_runV (n := 0) (As := []) (rest := []) (sX3_meanYear l G v1 h _ _ _ e) he4 rfl rfl rfl rfl q2272 q2273 q2274 q118 q2275 (by decide +kernel) rfl rfl ⟨Nat.le_of_ble_eq_true rfl, Nat.le_of_ble_eq_true rfl⟩ rfl (Nat.le_of_ble_eq_true rfl) dX1_meanYear_4) hf (fun r2 h c hf => ?_)
  exact sj_dret (o := sd_oD) hf rfl rfl rfl dX1_meanYear_7
/-! SofaDig.one(Z)I -/
abbrev cX1_one : ByteArray := prog_1_method_51_code
def yX1_one : MethodName := ⟨RX1, "one", "(Z)I"⟩
def dkwX1_one_0 : List UInt8 := [26, 153, 0, 7, 4, 167, 0, 4, 3, 172]
abbrev dktX1_one_0 : List UInt8 := dkwX1_one_0 ++ []
theorem dksX1_one_0 : cX1_one.data.toList.drop 0 = dktX1_one_0 := by decide +kernel
theorem dX1_one_0 : decode cX1_one 0 = .ok (.iload_n 0, 1) := dk_26 (dk_at dksX1_one_0 0 rfl rfl)
theorem dX1_one_1 : decode cX1_one 1 = .ok (.ifCond .eq 7, 3) := dk_153 0 7 (dk_at dksX1_one_0 1 rfl rfl)
theorem dX1_one_4 : decode cX1_one 4 = .ok (.iconst 1, 1) := dk_4 (dk_at dksX1_one_0 4 rfl rfl)
theorem dX1_one_5 : decode cX1_one 5 = .ok (.goto 4, 3) := dk_167 0 4 (dk_at dksX1_one_0 5 rfl rfl)
theorem dX1_one_8 : decode cX1_one 8 = .ok (.iconst 0, 1) := dk_3 (dk_at dksX1_one_0 8 rfl rfl)
theorem dX1_one_9 : decode cX1_one 9 = .ok (.ireturn, 1) := dk_172 (dk_at dksX1_one_0 9 rfl rfl)
abbrev mX1_one : sd_Y := (yX1_one, cX1_one, 1, some (.int), none)
def fX1_one (G : sd_G) (a1 : Int32) : sd_M Int32 :=
  if a1 = 0 then (
    sd_ret 0)
  else (
    sd_ret 1)
set_option maxHeartbeats 4000000 in
theorem sX1_one (l : Launch) (G : sd_G) (a1 : Int32) (h : sd_H) (ρ : Int32) (cT : Nat × Nat) (h2 : sd_H) (hf : fX1_one G a1 h = some (ρ, cT, h2)) : sd_Met mX1_one ((l, G), (0, 0), [.int a1], (sd_oI ρ, h2), cT) h := by
  refine sd_entry (plainFor_of_name rfl) rfl (Nat.le_of_ble_eq_true rfl) ?_
  show sd_J mX1_one ((l, G), (0, 0), [.int a1], (sd_oI ρ, h2), cT) 0 [(0, .int a1)] [] h cT
  unfold fX1_one at hf
  refine sj_iload_n 0 dX1_one_0 rfl ?_
  refine sj_ifeq 8 hf dX1_one_1 (by decide) (fun g1 hf => ?_) (fun g1 hf => ?_)
  · refine sj_iconst (v := 0) dX1_one_8 (by decide) ?_
    exact sj_iret (o := sd_oI) hf rfl rfl rfl dX1_one_9
  · refine sj_iconst (v := 1) dX1_one_4 (by decide) ?_
    refine sj_goto 9 dX1_one_5 (by decide) ?_
    exact sj_iret (o := sd_oI) hf rfl rfl rfl dX1_one_9
/-! SofaDig.digest()J -/
abbrev cX1_digest : ByteArray := prog_1_method_52_code
def yX1_digest : MethodName := ⟨RX1, "digest", "()J"⟩
def dkwX1_digest_16 : List UInt8 := [97, 64, 132, 4, 1, 167, 255, 204, 31, 173]
abbrev dktX1_digest_16 : List UInt8 := dkwX1_digest_16 ++ []
def dkwX1_digest_15 : List UInt8 := [182, 0, 194, 133, 97, 64, 31, 20, 1, 1, 105, 42, 180, 0, 54, 21, 4, 182, 0, 204, 184, 1, 3, 133]
abbrev dktX1_digest_15 : List UInt8 := dkwX1_digest_15 ++ dktX1_digest_16
def dkwX1_digest_14 : List UInt8 := [21, 4, 42, 180, 0, 54, 180, 0, 106, 162, 0, 46, 31, 20, 1, 1, 105, 42, 180, 0, 54, 21, 4]
abbrev dktX1_digest_14 : List UInt8 := dkwX1_digest_14 ++ dktX1_digest_15
def dkwX1_digest_13 : List UInt8 := [160, 0, 7, 4, 167, 0, 4, 3, 184, 1, 3, 133, 97, 64, 132, 4, 1, 167, 255, 179, 3, 54, 4]
abbrev dktX1_digest_13 : List UInt8 := dkwX1_digest_13 ++ dktX1_digest_14
def dkwX1_digest_12 : List UInt8 := [184, 1, 3, 133, 97, 64, 31, 20, 1, 1, 105, 42, 180, 0, 54, 180, 0, 178, 21, 4, 46, 4]
abbrev dktX1_digest_12 : List UInt8 := dkwX1_digest_12 ++ dktX1_digest_13
def dkwX1_digest_11 : List UInt8 := [31, 20, 1, 1, 105, 42, 180, 0, 54, 180, 0, 178, 21, 4, 46, 153, 0, 7, 4, 167, 0, 4, 3]
abbrev dktX1_digest_11 : List UInt8 := dkwX1_digest_11 ++ dktX1_digest_12
def dkwX1_digest_10 : List UInt8 := [132, 4, 1, 167, 255, 151, 3, 54, 4, 21, 4, 42, 180, 0, 54, 180, 0, 109, 182, 0, 118, 162, 0, 68]
abbrev dktX1_digest_10 : List UInt8 := dkwX1_digest_10 ++ dktX1_digest_11
def dkwX1_digest_9 : List UInt8 := [154, 0, 7, 2, 167, 0, 15, 42, 180, 0, 54, 21, 4, 182, 0, 152, 180, 0, 156, 133, 97, 64]
abbrev dktX1_digest_9 : List UInt8 := dkwX1_digest_9 ++ dktX1_digest_10
def dkwX1_digest_8 : List UInt8 := [21, 4, 182, 0, 168, 133, 97, 64, 31, 20, 1, 1, 105, 42, 180, 0, 54, 21, 4, 182, 0, 102]
abbrev dktX1_digest_8 : List UInt8 := dkwX1_digest_8 ++ dktX1_digest_9
def dkwX1_digest_7 : List UInt8 := [180, 0, 54, 21, 4, 182, 0, 145, 184, 1, 3, 133, 97, 64, 31, 20, 1, 1, 105, 42, 180, 0, 54]
abbrev dktX1_digest_7 : List UInt8 := dkwX1_digest_7 ++ dktX1_digest_8
def dkwX1_digest_6 : List UInt8 := [20, 1, 1, 105, 42, 180, 0, 54, 21, 4, 182, 0, 102, 133, 97, 64, 31, 20, 1, 1, 105, 42]
abbrev dktX1_digest_6 : List UInt8 := dkwX1_digest_6 ++ dktX1_digest_7
def dkwX1_digest_5 : List UInt8 := [132, 6, 1, 167, 255, 229, 3, 54, 4, 21, 4, 42, 180, 0, 54, 180, 0, 99, 162, 0, 99, 31]
abbrev dktX1_digest_5 : List UInt8 := dkwX1_digest_5 ++ dktX1_digest_6
def dkwX1_digest_4 : List UInt8 := [21, 6, 21, 5, 162, 0, 26, 25, 4, 21, 6, 46, 54, 7, 31, 20, 1, 1, 105, 21, 7, 133, 97, 64]
abbrev dktX1_digest_4 : List UInt8 := dkwX1_digest_4 ++ dktX1_digest_5
def dkwX1_digest_3 : List UInt8 := [182, 0, 251, 79, 89, 16, 9, 42, 182, 0, 254, 79, 78, 45, 58, 4, 25, 4, 190, 54, 5, 3, 54, 6]
abbrev dktX1_digest_3 : List UInt8 := dkwX1_digest_3 ++ dktX1_digest_4
def dkwX1_digest_2 : List UInt8 := [182, 0, 245, 79, 89, 16, 6, 42, 182, 0, 248, 79, 89, 16, 7, 42, 182, 0, 250, 79, 89, 16, 8, 42]
abbrev dktX1_digest_2 : List UInt8 := dkwX1_digest_2 ++ dktX1_digest_3
def dkwX1_digest_1 : List UInt8 := [42, 182, 0, 237, 79, 89, 6, 42, 182, 0, 239, 79, 89, 7, 42, 182, 0, 242, 79, 89, 8, 42]
abbrev dktX1_digest_1 : List UInt8 := dkwX1_digest_1 ++ dktX1_digest_2
def dkwX1_digest_0 : List UInt8 := [20, 0, 231, 64, 16, 10, 188, 10, 89, 3, 42, 182, 0, 233, 79, 89, 4, 42, 182, 0, 235, 79, 89, 5]
abbrev dktX1_digest_0 : List UInt8 := dkwX1_digest_0 ++ dktX1_digest_1
theorem dksX1_digest_0 : cX1_digest.data.toList.drop 0 = dktX1_digest_0 := by decide +kernel
theorem dksX1_digest_1 : cX1_digest.data.toList.drop 24 = dktX1_digest_1 := dk_seg dksX1_digest_0 24 rfl rfl
theorem dksX1_digest_2 : cX1_digest.data.toList.drop 46 = dktX1_digest_2 := dk_seg dksX1_digest_1 22 rfl rfl
theorem dksX1_digest_3 : cX1_digest.data.toList.drop 70 = dktX1_digest_3 := dk_seg dksX1_digest_2 24 rfl rfl
theorem dksX1_digest_4 : cX1_digest.data.toList.drop 94 = dktX1_digest_4 := dk_seg dksX1_digest_3 24 rfl rfl
theorem dksX1_digest_5 : cX1_digest.data.toList.drop 118 = dktX1_digest_5 := dk_seg dksX1_digest_4 24 rfl rfl
theorem dksX1_digest_6 : cX1_digest.data.toList.drop 140 = dktX1_digest_6 := dk_seg dksX1_digest_5 22 rfl rfl
theorem dksX1_digest_7 : cX1_digest.data.toList.drop 162 = dktX1_digest_7 := dk_seg dksX1_digest_6 22 rfl rfl
theorem dksX1_digest_8 : cX1_digest.data.toList.drop 185 = dktX1_digest_8 := dk_seg dksX1_digest_7 23 rfl rfl
theorem dksX1_digest_9 : cX1_digest.data.toList.drop 207 = dktX1_digest_9 := dk_seg dksX1_digest_8 22 rfl rfl
theorem dksX1_digest_10 : cX1_digest.data.toList.drop 229 = dktX1_digest_10 := dk_seg dksX1_digest_9 22 rfl rfl
theorem dksX1_digest_11 : cX1_digest.data.toList.drop 253 = dktX1_digest_11 := dk_seg dksX1_digest_10 24 rfl rfl
theorem dksX1_digest_12 : cX1_digest.data.toList.drop 276 = dktX1_digest_12 := dk_seg dksX1_digest_11 23 rfl rfl
theorem dksX1_digest_13 : cX1_digest.data.toList.drop 298 = dktX1_digest_13 := dk_seg dksX1_digest_12 22 rfl rfl
theorem dksX1_digest_14 : cX1_digest.data.toList.drop 321 = dktX1_digest_14 := dk_seg dksX1_digest_13 23 rfl rfl
theorem dksX1_digest_15 : cX1_digest.data.toList.drop 344 = dktX1_digest_15 := dk_seg dksX1_digest_14 23 rfl rfl
theorem dksX1_digest_16 : cX1_digest.data.toList.drop 368 = dktX1_digest_16 := dk_seg dksX1_digest_15 24 rfl rfl
theorem dX1_digest_0 : decode cX1_digest 0 = .ok (.ldc2_w 231, 3) := dk_20 0 231 (dk_at dksX1_digest_0 0 rfl rfl)
theorem dX1_digest_3 : decode cX1_digest 3 = .ok (.lstore_n 1, 1) := dk_64 (dk_at dksX1_digest_0 3 rfl rfl)
theorem dX1_digest_4 : decode cX1_digest 4 = .ok (.bipush 10, 2) := dk_16 10 (dk_at dksX1_digest_0 4 rfl rfl)
theorem dX1_digest_6 : decode cX1_digest 6 = .ok (.newarray .int, 2) := dk_188_10 (dk_at dksX1_digest_0 6 rfl rfl)
theorem dX1_digest_8 : decode cX1_digest 8 = .ok (.dup, 1) := dk_89 (dk_at dksX1_digest_0 8 rfl rfl)
theorem dX1_digest_9 : decode cX1_digest 9 = .ok (.iconst 0, 1) := dk_3 (dk_at dksX1_digest_0 9 rfl rfl)
theorem dX1_digest_10 : decode cX1_digest 10 = .ok (.aload_n 0, 1) := dk_42 (dk_at dksX1_digest_0 10 rfl rfl)
theorem dX1_digest_11 : decode cX1_digest 11 = .ok (.invokevirtual 233, 3) := dk_182 0 233 (dk_at dksX1_digest_0 11 rfl rfl)
theorem dX1_digest_14 : decode cX1_digest 14 = .ok (.iastore, 1) := dk_79 (dk_at dksX1_digest_0 14 rfl rfl)
theorem dX1_digest_15 : decode cX1_digest 15 = .ok (.dup, 1) := dk_89 (dk_at dksX1_digest_0 15 rfl rfl)
theorem dX1_digest_16 : decode cX1_digest 16 = .ok (.iconst 1, 1) := dk_4 (dk_at dksX1_digest_0 16 rfl rfl)
theorem dX1_digest_17 : decode cX1_digest 17 = .ok (.aload_n 0, 1) := dk_42 (dk_at dksX1_digest_0 17 rfl rfl)
theorem dX1_digest_18 : decode cX1_digest 18 = .ok (.invokevirtual 235, 3) := dk_182 0 235 (dk_at dksX1_digest_0 18 rfl rfl)
theorem dX1_digest_21 : decode cX1_digest 21 = .ok (.iastore, 1) := dk_79 (dk_at dksX1_digest_0 21 rfl rfl)
theorem dX1_digest_22 : decode cX1_digest 22 = .ok (.dup, 1) := dk_89 (dk_at dksX1_digest_0 22 rfl rfl)
theorem dX1_digest_23 : decode cX1_digest 23 = .ok (.iconst 2, 1) := dk_5 (dk_at dksX1_digest_0 23 rfl rfl)
theorem dX1_digest_24 : decode cX1_digest 24 = .ok (.aload_n 0, 1) := dk_42 (dk_at dksX1_digest_1 0 rfl rfl)
theorem dX1_digest_25 : decode cX1_digest 25 = .ok (.invokevirtual 237, 3) := dk_182 0 237 (dk_at dksX1_digest_1 1 rfl rfl)
theorem dX1_digest_28 : decode cX1_digest 28 = .ok (.iastore, 1) := dk_79 (dk_at dksX1_digest_1 4 rfl rfl)
theorem dX1_digest_29 : decode cX1_digest 29 = .ok (.dup, 1) := dk_89 (dk_at dksX1_digest_1 5 rfl rfl)
theorem dX1_digest_30 : decode cX1_digest 30 = .ok (.iconst 3, 1) := dk_6 (dk_at dksX1_digest_1 6 rfl rfl)
theorem dX1_digest_31 : decode cX1_digest 31 = .ok (.aload_n 0, 1) := dk_42 (dk_at dksX1_digest_1 7 rfl rfl)
theorem dX1_digest_32 : decode cX1_digest 32 = .ok (.invokevirtual 239, 3) := dk_182 0 239 (dk_at dksX1_digest_1 8 rfl rfl)
theorem dX1_digest_35 : decode cX1_digest 35 = .ok (.iastore, 1) := dk_79 (dk_at dksX1_digest_1 11 rfl rfl)
theorem dX1_digest_36 : decode cX1_digest 36 = .ok (.dup, 1) := dk_89 (dk_at dksX1_digest_1 12 rfl rfl)
theorem dX1_digest_37 : decode cX1_digest 37 = .ok (.iconst 4, 1) := dk_7 (dk_at dksX1_digest_1 13 rfl rfl)
theorem dX1_digest_38 : decode cX1_digest 38 = .ok (.aload_n 0, 1) := dk_42 (dk_at dksX1_digest_1 14 rfl rfl)
theorem dX1_digest_39 : decode cX1_digest 39 = .ok (.invokevirtual 242, 3) := dk_182 0 242 (dk_at dksX1_digest_1 15 rfl rfl)
theorem dX1_digest_42 : decode cX1_digest 42 = .ok (.iastore, 1) := dk_79 (dk_at dksX1_digest_1 18 rfl rfl)
theorem dX1_digest_43 : decode cX1_digest 43 = .ok (.dup, 1) := dk_89 (dk_at dksX1_digest_1 19 rfl rfl)
theorem dX1_digest_44 : decode cX1_digest 44 = .ok (.iconst 5, 1) := dk_8 (dk_at dksX1_digest_1 20 rfl rfl)
theorem dX1_digest_45 : decode cX1_digest 45 = .ok (.aload_n 0, 1) := dk_42 (dk_at dksX1_digest_1 21 rfl rfl)
theorem dX1_digest_46 : decode cX1_digest 46 = .ok (.invokevirtual 245, 3) := dk_182 0 245 (dk_at dksX1_digest_2 0 rfl rfl)
theorem dX1_digest_49 : decode cX1_digest 49 = .ok (.iastore, 1) := dk_79 (dk_at dksX1_digest_2 3 rfl rfl)
theorem dX1_digest_50 : decode cX1_digest 50 = .ok (.dup, 1) := dk_89 (dk_at dksX1_digest_2 4 rfl rfl)
theorem dX1_digest_51 : decode cX1_digest 51 = .ok (.bipush 6, 2) := dk_16 6 (dk_at dksX1_digest_2 5 rfl rfl)
theorem dX1_digest_53 : decode cX1_digest 53 = .ok (.aload_n 0, 1) := dk_42 (dk_at dksX1_digest_2 7 rfl rfl)
theorem dX1_digest_54 : decode cX1_digest 54 = .ok (.invokevirtual 248, 3) := dk_182 0 248 (dk_at dksX1_digest_2 8 rfl rfl)
theorem dX1_digest_57 : decode cX1_digest 57 = .ok (.iastore, 1) := dk_79 (dk_at dksX1_digest_2 11 rfl rfl)
theorem dX1_digest_58 : decode cX1_digest 58 = .ok (.dup, 1) := dk_89 (dk_at dksX1_digest_2 12 rfl rfl)
theorem dX1_digest_59 : decode cX1_digest 59 = .ok (.bipush 7, 2) := dk_16 7 (dk_at dksX1_digest_2 13 rfl rfl)
theorem dX1_digest_61 : decode cX1_digest 61 = .ok (.aload_n 0, 1) := dk_42 (dk_at dksX1_digest_2 15 rfl rfl)
theorem dX1_digest_62 : decode cX1_digest 62 = .ok (.invokevirtual 250, 3) := dk_182 0 250 (dk_at dksX1_digest_2 16 rfl rfl)
theorem dX1_digest_65 : decode cX1_digest 65 = .ok (.iastore, 1) := dk_79 (dk_at dksX1_digest_2 19 rfl rfl)
theorem dX1_digest_66 : decode cX1_digest 66 = .ok (.dup, 1) := dk_89 (dk_at dksX1_digest_2 20 rfl rfl)
theorem dX1_digest_67 : decode cX1_digest 67 = .ok (.bipush 8, 2) := dk_16 8 (dk_at dksX1_digest_2 21 rfl rfl)
theorem dX1_digest_69 : decode cX1_digest 69 = .ok (.aload_n 0, 1) := dk_42 (dk_at dksX1_digest_2 23 rfl rfl)
theorem dX1_digest_70 : decode cX1_digest 70 = .ok (.invokevirtual 251, 3) := dk_182 0 251 (dk_at dksX1_digest_3 0 rfl rfl)
theorem dX1_digest_73 : decode cX1_digest 73 = .ok (.iastore, 1) := dk_79 (dk_at dksX1_digest_3 3 rfl rfl)
theorem dX1_digest_74 : decode cX1_digest 74 = .ok (.dup, 1) := dk_89 (dk_at dksX1_digest_3 4 rfl rfl)
theorem dX1_digest_75 : decode cX1_digest 75 = .ok (.bipush 9, 2) := dk_16 9 (dk_at dksX1_digest_3 5 rfl rfl)
theorem dX1_digest_77 : decode cX1_digest 77 = .ok (.aload_n 0, 1) := dk_42 (dk_at dksX1_digest_3 7 rfl rfl)
theorem dX1_digest_78 : decode cX1_digest 78 = .ok (.invokevirtual 254, 3) := dk_182 0 254 (dk_at dksX1_digest_3 8 rfl rfl)
theorem dX1_digest_81 : decode cX1_digest 81 = .ok (.iastore, 1) := dk_79 (dk_at dksX1_digest_3 11 rfl rfl)
theorem dX1_digest_82 : decode cX1_digest 82 = .ok (.astore_n 3, 1) := dk_78 (dk_at dksX1_digest_3 12 rfl rfl)
theorem dX1_digest_83 : decode cX1_digest 83 = .ok (.aload_n 3, 1) := dk_45 (dk_at dksX1_digest_3 13 rfl rfl)
theorem dX1_digest_84 : decode cX1_digest 84 = .ok (.astore 4, 2) := dk_58 4 (dk_at dksX1_digest_3 14 rfl rfl)
theorem dX1_digest_86 : decode cX1_digest 86 = .ok (.aload 4, 2) := dk_25 4 (dk_at dksX1_digest_3 16 rfl rfl)
theorem dX1_digest_88 : decode cX1_digest 88 = .ok (.arraylength, 1) := dk_190 (dk_at dksX1_digest_3 18 rfl rfl)
theorem dX1_digest_89 : decode cX1_digest 89 = .ok (.istore 5, 2) := dk_54 5 (dk_at dksX1_digest_3 19 rfl rfl)
theorem dX1_digest_91 : decode cX1_digest 91 = .ok (.iconst 0, 1) := dk_3 (dk_at dksX1_digest_3 21 rfl rfl)
theorem dX1_digest_92 : decode cX1_digest 92 = .ok (.istore 6, 2) := dk_54 6 (dk_at dksX1_digest_3 22 rfl rfl)
theorem dX1_digest_94 : decode cX1_digest 94 = .ok (.iload 6, 2) := dk_21 6 (dk_at dksX1_digest_4 0 rfl rfl)
theorem dX1_digest_96 : decode cX1_digest 96 = .ok (.iload 5, 2) := dk_21 5 (dk_at dksX1_digest_4 2 rfl rfl)
theorem dX1_digest_98 : decode cX1_digest 98 = .ok (.if_icmp .ge 26, 3) := dk_162 0 26 (dk_at dksX1_digest_4 4 rfl rfl)
theorem dX1_digest_101 : decode cX1_digest 101 = .ok (.aload 4, 2) := dk_25 4 (dk_at dksX1_digest_4 7 rfl rfl)
theorem dX1_digest_103 : decode cX1_digest 103 = .ok (.iload 6, 2) := dk_21 6 (dk_at dksX1_digest_4 9 rfl rfl)
theorem dX1_digest_105 : decode cX1_digest 105 = .ok (.iaload, 1) := dk_46 (dk_at dksX1_digest_4 11 rfl rfl)
theorem dX1_digest_106 : decode cX1_digest 106 = .ok (.istore 7, 2) := dk_54 7 (dk_at dksX1_digest_4 12 rfl rfl)
theorem dX1_digest_108 : decode cX1_digest 108 = .ok (.lload_n 1, 1) := dk_31 (dk_at dksX1_digest_4 14 rfl rfl)
theorem dX1_digest_109 : decode cX1_digest 109 = .ok (.ldc2_w 257, 3) := dk_20 1 1 (dk_at dksX1_digest_4 15 rfl rfl)
theorem dX1_digest_112 : decode cX1_digest 112 = .ok (.lmul, 1) := dk_105 (dk_at dksX1_digest_4 18 rfl rfl)
theorem dX1_digest_113 : decode cX1_digest 113 = .ok (.iload 7, 2) := dk_21 7 (dk_at dksX1_digest_4 19 rfl rfl)
theorem dX1_digest_115 : decode cX1_digest 115 = .ok (.i2l, 1) := dk_133 (dk_at dksX1_digest_4 21 rfl rfl)
theorem dX1_digest_116 : decode cX1_digest 116 = .ok (.ladd, 1) := dk_97 (dk_at dksX1_digest_4 22 rfl rfl)
theorem dX1_digest_117 : decode cX1_digest 117 = .ok (.lstore_n 1, 1) := dk_64 (dk_at dksX1_digest_4 23 rfl rfl)
theorem dX1_digest_118 : decode cX1_digest 118 = .ok (.iinc 6 1, 3) := dk_132 6 1 (dk_at dksX1_digest_5 0 rfl rfl)
theorem dX1_digest_121 : decode cX1_digest 121 = .ok (.goto (-27), 3) := dk_167 255 229 (dk_at dksX1_digest_5 3 rfl rfl)
theorem dX1_digest_124 : decode cX1_digest 124 = .ok (.iconst 0, 1) := dk_3 (dk_at dksX1_digest_5 6 rfl rfl)
theorem dX1_digest_125 : decode cX1_digest 125 = .ok (.istore 4, 2) := dk_54 4 (dk_at dksX1_digest_5 7 rfl rfl)
theorem dX1_digest_127 : decode cX1_digest 127 = .ok (.iload 4, 2) := dk_21 4 (dk_at dksX1_digest_5 9 rfl rfl)
theorem dX1_digest_129 : decode cX1_digest 129 = .ok (.aload_n 0, 1) := dk_42 (dk_at dksX1_digest_5 11 rfl rfl)
theorem dX1_digest_130 : decode cX1_digest 130 = .ok (.getfield 54, 3) := dk_180 0 54 (dk_at dksX1_digest_5 12 rfl rfl)
theorem dX1_digest_133 : decode cX1_digest 133 = .ok (.getfield 99, 3) := dk_180 0 99 (dk_at dksX1_digest_5 15 rfl rfl)
theorem dX1_digest_136 : decode cX1_digest 136 = .ok (.if_icmp .ge 99, 3) := dk_162 0 99 (dk_at dksX1_digest_5 18 rfl rfl)
theorem dX1_digest_139 : decode cX1_digest 139 = .ok (.lload_n 1, 1) := dk_31 (dk_at dksX1_digest_5 21 rfl rfl)
theorem dX1_digest_140 : decode cX1_digest 140 = .ok (.ldc2_w 257, 3) := dk_20 1 1 (dk_at dksX1_digest_6 0 rfl rfl)
theorem dX1_digest_143 : decode cX1_digest 143 = .ok (.lmul, 1) := dk_105 (dk_at dksX1_digest_6 3 rfl rfl)
theorem dX1_digest_144 : decode cX1_digest 144 = .ok (.aload_n 0, 1) := dk_42 (dk_at dksX1_digest_6 4 rfl rfl)
theorem dX1_digest_145 : decode cX1_digest 145 = .ok (.getfield 54, 3) := dk_180 0 54 (dk_at dksX1_digest_6 5 rfl rfl)
theorem dX1_digest_148 : decode cX1_digest 148 = .ok (.iload 4, 2) := dk_21 4 (dk_at dksX1_digest_6 8 rfl rfl)
theorem dX1_digest_150 : decode cX1_digest 150 = .ok (.invokevirtual 102, 3) := dk_182 0 102 (dk_at dksX1_digest_6 10 rfl rfl)
theorem dX1_digest_153 : decode cX1_digest 153 = .ok (.i2l, 1) := dk_133 (dk_at dksX1_digest_6 13 rfl rfl)
theorem dX1_digest_154 : decode cX1_digest 154 = .ok (.ladd, 1) := dk_97 (dk_at dksX1_digest_6 14 rfl rfl)
theorem dX1_digest_155 : decode cX1_digest 155 = .ok (.lstore_n 1, 1) := dk_64 (dk_at dksX1_digest_6 15 rfl rfl)
theorem dX1_digest_156 : decode cX1_digest 156 = .ok (.lload_n 1, 1) := dk_31 (dk_at dksX1_digest_6 16 rfl rfl)
theorem dX1_digest_157 : decode cX1_digest 157 = .ok (.ldc2_w 257, 3) := dk_20 1 1 (dk_at dksX1_digest_6 17 rfl rfl)
theorem dX1_digest_160 : decode cX1_digest 160 = .ok (.lmul, 1) := dk_105 (dk_at dksX1_digest_6 20 rfl rfl)
theorem dX1_digest_161 : decode cX1_digest 161 = .ok (.aload_n 0, 1) := dk_42 (dk_at dksX1_digest_6 21 rfl rfl)
theorem dX1_digest_162 : decode cX1_digest 162 = .ok (.getfield 54, 3) := dk_180 0 54 (dk_at dksX1_digest_7 0 rfl rfl)
theorem dX1_digest_165 : decode cX1_digest 165 = .ok (.iload 4, 2) := dk_21 4 (dk_at dksX1_digest_7 3 rfl rfl)
theorem dX1_digest_167 : decode cX1_digest 167 = .ok (.invokevirtual 145, 3) := dk_182 0 145 (dk_at dksX1_digest_7 5 rfl rfl)
theorem dX1_digest_170 : decode cX1_digest 170 = .ok (.invokestatic 259, 3) := dk_184 1 3 (dk_at dksX1_digest_7 8 rfl rfl)
theorem dX1_digest_173 : decode cX1_digest 173 = .ok (.i2l, 1) := dk_133 (dk_at dksX1_digest_7 11 rfl rfl)
theorem dX1_digest_174 : decode cX1_digest 174 = .ok (.ladd, 1) := dk_97 (dk_at dksX1_digest_7 12 rfl rfl)
theorem dX1_digest_175 : decode cX1_digest 175 = .ok (.lstore_n 1, 1) := dk_64 (dk_at dksX1_digest_7 13 rfl rfl)
theorem dX1_digest_176 : decode cX1_digest 176 = .ok (.lload_n 1, 1) := dk_31 (dk_at dksX1_digest_7 14 rfl rfl)
theorem dX1_digest_177 : decode cX1_digest 177 = .ok (.ldc2_w 257, 3) := dk_20 1 1 (dk_at dksX1_digest_7 15 rfl rfl)
theorem dX1_digest_180 : decode cX1_digest 180 = .ok (.lmul, 1) := dk_105 (dk_at dksX1_digest_7 18 rfl rfl)
theorem dX1_digest_181 : decode cX1_digest 181 = .ok (.aload_n 0, 1) := dk_42 (dk_at dksX1_digest_7 19 rfl rfl)
theorem dX1_digest_182 : decode cX1_digest 182 = .ok (.getfield 54, 3) := dk_180 0 54 (dk_at dksX1_digest_7 20 rfl rfl)
theorem dX1_digest_185 : decode cX1_digest 185 = .ok (.iload 4, 2) := dk_21 4 (dk_at dksX1_digest_8 0 rfl rfl)
theorem dX1_digest_187 : decode cX1_digest 187 = .ok (.invokevirtual 168, 3) := dk_182 0 168 (dk_at dksX1_digest_8 2 rfl rfl)
theorem dX1_digest_190 : decode cX1_digest 190 = .ok (.i2l, 1) := dk_133 (dk_at dksX1_digest_8 5 rfl rfl)
theorem dX1_digest_191 : decode cX1_digest 191 = .ok (.ladd, 1) := dk_97 (dk_at dksX1_digest_8 6 rfl rfl)
theorem dX1_digest_192 : decode cX1_digest 192 = .ok (.lstore_n 1, 1) := dk_64 (dk_at dksX1_digest_8 7 rfl rfl)
theorem dX1_digest_193 : decode cX1_digest 193 = .ok (.lload_n 1, 1) := dk_31 (dk_at dksX1_digest_8 8 rfl rfl)
theorem dX1_digest_194 : decode cX1_digest 194 = .ok (.ldc2_w 257, 3) := dk_20 1 1 (dk_at dksX1_digest_8 9 rfl rfl)
theorem dX1_digest_197 : decode cX1_digest 197 = .ok (.lmul, 1) := dk_105 (dk_at dksX1_digest_8 12 rfl rfl)
theorem dX1_digest_198 : decode cX1_digest 198 = .ok (.aload_n 0, 1) := dk_42 (dk_at dksX1_digest_8 13 rfl rfl)
theorem dX1_digest_199 : decode cX1_digest 199 = .ok (.getfield 54, 3) := dk_180 0 54 (dk_at dksX1_digest_8 14 rfl rfl)
theorem dX1_digest_202 : decode cX1_digest 202 = .ok (.iload 4, 2) := dk_21 4 (dk_at dksX1_digest_8 17 rfl rfl)
theorem dX1_digest_204 : decode cX1_digest 204 = .ok (.invokevirtual 102, 3) := dk_182 0 102 (dk_at dksX1_digest_8 19 rfl rfl)
theorem dX1_digest_207 : decode cX1_digest 207 = .ok (.ifCond .ne 7, 3) := dk_154 0 7 (dk_at dksX1_digest_9 0 rfl rfl)
theorem dX1_digest_210 : decode cX1_digest 210 = .ok (.iconst (-1), 1) := dk_2 (dk_at dksX1_digest_9 3 rfl rfl)
theorem dX1_digest_211 : decode cX1_digest 211 = .ok (.goto 15, 3) := dk_167 0 15 (dk_at dksX1_digest_9 4 rfl rfl)
theorem dX1_digest_214 : decode cX1_digest 214 = .ok (.aload_n 0, 1) := dk_42 (dk_at dksX1_digest_9 7 rfl rfl)
theorem dX1_digest_215 : decode cX1_digest 215 = .ok (.getfield 54, 3) := dk_180 0 54 (dk_at dksX1_digest_9 8 rfl rfl)
theorem dX1_digest_218 : decode cX1_digest 218 = .ok (.iload 4, 2) := dk_21 4 (dk_at dksX1_digest_9 11 rfl rfl)
theorem dX1_digest_220 : decode cX1_digest 220 = .ok (.invokevirtual 152, 3) := dk_182 0 152 (dk_at dksX1_digest_9 13 rfl rfl)
theorem dX1_digest_223 : decode cX1_digest 223 = .ok (.getfield 156, 3) := dk_180 0 156 (dk_at dksX1_digest_9 16 rfl rfl)
theorem dX1_digest_226 : decode cX1_digest 226 = .ok (.i2l, 1) := dk_133 (dk_at dksX1_digest_9 19 rfl rfl)
theorem dX1_digest_227 : decode cX1_digest 227 = .ok (.ladd, 1) := dk_97 (dk_at dksX1_digest_9 20 rfl rfl)
theorem dX1_digest_228 : decode cX1_digest 228 = .ok (.lstore_n 1, 1) := dk_64 (dk_at dksX1_digest_9 21 rfl rfl)
theorem dX1_digest_229 : decode cX1_digest 229 = .ok (.iinc 4 1, 3) := dk_132 4 1 (dk_at dksX1_digest_10 0 rfl rfl)
theorem dX1_digest_232 : decode cX1_digest 232 = .ok (.goto (-105), 3) := dk_167 255 151 (dk_at dksX1_digest_10 3 rfl rfl)
theorem dX1_digest_235 : decode cX1_digest 235 = .ok (.iconst 0, 1) := dk_3 (dk_at dksX1_digest_10 6 rfl rfl)
theorem dX1_digest_236 : decode cX1_digest 236 = .ok (.istore 4, 2) := dk_54 4 (dk_at dksX1_digest_10 7 rfl rfl)
theorem dX1_digest_238 : decode cX1_digest 238 = .ok (.iload 4, 2) := dk_21 4 (dk_at dksX1_digest_10 9 rfl rfl)
theorem dX1_digest_240 : decode cX1_digest 240 = .ok (.aload_n 0, 1) := dk_42 (dk_at dksX1_digest_10 11 rfl rfl)
theorem dX1_digest_241 : decode cX1_digest 241 = .ok (.getfield 54, 3) := dk_180 0 54 (dk_at dksX1_digest_10 12 rfl rfl)
theorem dX1_digest_244 : decode cX1_digest 244 = .ok (.getfield 109, 3) := dk_180 0 109 (dk_at dksX1_digest_10 15 rfl rfl)
theorem dX1_digest_247 : decode cX1_digest 247 = .ok (.invokevirtual 118, 3) := dk_182 0 118 (dk_at dksX1_digest_10 18 rfl rfl)
theorem dX1_digest_250 : decode cX1_digest 250 = .ok (.if_icmp .ge 68, 3) := dk_162 0 68 (dk_at dksX1_digest_10 21 rfl rfl)
theorem dX1_digest_253 : decode cX1_digest 253 = .ok (.lload_n 1, 1) := dk_31 (dk_at dksX1_digest_11 0 rfl rfl)
theorem dX1_digest_254 : decode cX1_digest 254 = .ok (.ldc2_w 257, 3) := dk_20 1 1 (dk_at dksX1_digest_11 1 rfl rfl)
theorem dX1_digest_257 : decode cX1_digest 257 = .ok (.lmul, 1) := dk_105 (dk_at dksX1_digest_11 4 rfl rfl)
theorem dX1_digest_258 : decode cX1_digest 258 = .ok (.aload_n 0, 1) := dk_42 (dk_at dksX1_digest_11 5 rfl rfl)
theorem dX1_digest_259 : decode cX1_digest 259 = .ok (.getfield 54, 3) := dk_180 0 54 (dk_at dksX1_digest_11 6 rfl rfl)
theorem dX1_digest_262 : decode cX1_digest 262 = .ok (.getfield 178, 3) := dk_180 0 178 (dk_at dksX1_digest_11 9 rfl rfl)
theorem dX1_digest_265 : decode cX1_digest 265 = .ok (.iload 4, 2) := dk_21 4 (dk_at dksX1_digest_11 12 rfl rfl)
theorem dX1_digest_267 : decode cX1_digest 267 = .ok (.iaload, 1) := dk_46 (dk_at dksX1_digest_11 14 rfl rfl)
theorem dX1_digest_268 : decode cX1_digest 268 = .ok (.ifCond .eq 7, 3) := dk_153 0 7 (dk_at dksX1_digest_11 15 rfl rfl)
theorem dX1_digest_271 : decode cX1_digest 271 = .ok (.iconst 1, 1) := dk_4 (dk_at dksX1_digest_11 18 rfl rfl)
theorem dX1_digest_272 : decode cX1_digest 272 = .ok (.goto 4, 3) := dk_167 0 4 (dk_at dksX1_digest_11 19 rfl rfl)
theorem dX1_digest_275 : decode cX1_digest 275 = .ok (.iconst 0, 1) := dk_3 (dk_at dksX1_digest_11 22 rfl rfl)
theorem dX1_digest_276 : decode cX1_digest 276 = .ok (.invokestatic 259, 3) := dk_184 1 3 (dk_at dksX1_digest_12 0 rfl rfl)
theorem dX1_digest_279 : decode cX1_digest 279 = .ok (.i2l, 1) := dk_133 (dk_at dksX1_digest_12 3 rfl rfl)
theorem dX1_digest_280 : decode cX1_digest 280 = .ok (.ladd, 1) := dk_97 (dk_at dksX1_digest_12 4 rfl rfl)
theorem dX1_digest_281 : decode cX1_digest 281 = .ok (.lstore_n 1, 1) := dk_64 (dk_at dksX1_digest_12 5 rfl rfl)
theorem dX1_digest_282 : decode cX1_digest 282 = .ok (.lload_n 1, 1) := dk_31 (dk_at dksX1_digest_12 6 rfl rfl)
theorem dX1_digest_283 : decode cX1_digest 283 = .ok (.ldc2_w 257, 3) := dk_20 1 1 (dk_at dksX1_digest_12 7 rfl rfl)
theorem dX1_digest_286 : decode cX1_digest 286 = .ok (.lmul, 1) := dk_105 (dk_at dksX1_digest_12 10 rfl rfl)
theorem dX1_digest_287 : decode cX1_digest 287 = .ok (.aload_n 0, 1) := dk_42 (dk_at dksX1_digest_12 11 rfl rfl)
theorem dX1_digest_288 : decode cX1_digest 288 = .ok (.getfield 54, 3) := dk_180 0 54 (dk_at dksX1_digest_12 12 rfl rfl)
theorem dX1_digest_291 : decode cX1_digest 291 = .ok (.getfield 178, 3) := dk_180 0 178 (dk_at dksX1_digest_12 15 rfl rfl)
theorem dX1_digest_294 : decode cX1_digest 294 = .ok (.iload 4, 2) := dk_21 4 (dk_at dksX1_digest_12 18 rfl rfl)
theorem dX1_digest_296 : decode cX1_digest 296 = .ok (.iaload, 1) := dk_46 (dk_at dksX1_digest_12 20 rfl rfl)
theorem dX1_digest_297 : decode cX1_digest 297 = .ok (.iconst 1, 1) := dk_4 (dk_at dksX1_digest_12 21 rfl rfl)
theorem dX1_digest_298 : decode cX1_digest 298 = .ok (.if_icmp .ne 7, 3) := dk_160 0 7 (dk_at dksX1_digest_13 0 rfl rfl)
theorem dX1_digest_301 : decode cX1_digest 301 = .ok (.iconst 1, 1) := dk_4 (dk_at dksX1_digest_13 3 rfl rfl)
theorem dX1_digest_302 : decode cX1_digest 302 = .ok (.goto 4, 3) := dk_167 0 4 (dk_at dksX1_digest_13 4 rfl rfl)
theorem dX1_digest_305 : decode cX1_digest 305 = .ok (.iconst 0, 1) := dk_3 (dk_at dksX1_digest_13 7 rfl rfl)
theorem dX1_digest_306 : decode cX1_digest 306 = .ok (.invokestatic 259, 3) := dk_184 1 3 (dk_at dksX1_digest_13 8 rfl rfl)
theorem dX1_digest_309 : decode cX1_digest 309 = .ok (.i2l, 1) := dk_133 (dk_at dksX1_digest_13 11 rfl rfl)
theorem dX1_digest_310 : decode cX1_digest 310 = .ok (.ladd, 1) := dk_97 (dk_at dksX1_digest_13 12 rfl rfl)
theorem dX1_digest_311 : decode cX1_digest 311 = .ok (.lstore_n 1, 1) := dk_64 (dk_at dksX1_digest_13 13 rfl rfl)
theorem dX1_digest_312 : decode cX1_digest 312 = .ok (.iinc 4 1, 3) := dk_132 4 1 (dk_at dksX1_digest_13 14 rfl rfl)
theorem dX1_digest_315 : decode cX1_digest 315 = .ok (.goto (-77), 3) := dk_167 255 179 (dk_at dksX1_digest_13 17 rfl rfl)
theorem dX1_digest_318 : decode cX1_digest 318 = .ok (.iconst 0, 1) := dk_3 (dk_at dksX1_digest_13 20 rfl rfl)
theorem dX1_digest_319 : decode cX1_digest 319 = .ok (.istore 4, 2) := dk_54 4 (dk_at dksX1_digest_13 21 rfl rfl)
theorem dX1_digest_321 : decode cX1_digest 321 = .ok (.iload 4, 2) := dk_21 4 (dk_at dksX1_digest_14 0 rfl rfl)
theorem dX1_digest_323 : decode cX1_digest 323 = .ok (.aload_n 0, 1) := dk_42 (dk_at dksX1_digest_14 2 rfl rfl)
theorem dX1_digest_324 : decode cX1_digest 324 = .ok (.getfield 54, 3) := dk_180 0 54 (dk_at dksX1_digest_14 3 rfl rfl)
theorem dX1_digest_327 : decode cX1_digest 327 = .ok (.getfield 106, 3) := dk_180 0 106 (dk_at dksX1_digest_14 6 rfl rfl)
theorem dX1_digest_330 : decode cX1_digest 330 = .ok (.if_icmp .ge 46, 3) := dk_162 0 46 (dk_at dksX1_digest_14 9 rfl rfl)
theorem dX1_digest_333 : decode cX1_digest 333 = .ok (.lload_n 1, 1) := dk_31 (dk_at dksX1_digest_14 12 rfl rfl)
theorem dX1_digest_334 : decode cX1_digest 334 = .ok (.ldc2_w 257, 3) := dk_20 1 1 (dk_at dksX1_digest_14 13 rfl rfl)
theorem dX1_digest_337 : decode cX1_digest 337 = .ok (.lmul, 1) := dk_105 (dk_at dksX1_digest_14 16 rfl rfl)
theorem dX1_digest_338 : decode cX1_digest 338 = .ok (.aload_n 0, 1) := dk_42 (dk_at dksX1_digest_14 17 rfl rfl)
theorem dX1_digest_339 : decode cX1_digest 339 = .ok (.getfield 54, 3) := dk_180 0 54 (dk_at dksX1_digest_14 18 rfl rfl)
theorem dX1_digest_342 : decode cX1_digest 342 = .ok (.iload 4, 2) := dk_21 4 (dk_at dksX1_digest_14 21 rfl rfl)
theorem dX1_digest_344 : decode cX1_digest 344 = .ok (.invokevirtual 194, 3) := dk_182 0 194 (dk_at dksX1_digest_15 0 rfl rfl)
theorem dX1_digest_347 : decode cX1_digest 347 = .ok (.i2l, 1) := dk_133 (dk_at dksX1_digest_15 3 rfl rfl)
theorem dX1_digest_348 : decode cX1_digest 348 = .ok (.ladd, 1) := dk_97 (dk_at dksX1_digest_15 4 rfl rfl)
theorem dX1_digest_349 : decode cX1_digest 349 = .ok (.lstore_n 1, 1) := dk_64 (dk_at dksX1_digest_15 5 rfl rfl)
theorem dX1_digest_350 : decode cX1_digest 350 = .ok (.lload_n 1, 1) := dk_31 (dk_at dksX1_digest_15 6 rfl rfl)
theorem dX1_digest_351 : decode cX1_digest 351 = .ok (.ldc2_w 257, 3) := dk_20 1 1 (dk_at dksX1_digest_15 7 rfl rfl)
theorem dX1_digest_354 : decode cX1_digest 354 = .ok (.lmul, 1) := dk_105 (dk_at dksX1_digest_15 10 rfl rfl)
theorem dX1_digest_355 : decode cX1_digest 355 = .ok (.aload_n 0, 1) := dk_42 (dk_at dksX1_digest_15 11 rfl rfl)
theorem dX1_digest_356 : decode cX1_digest 356 = .ok (.getfield 54, 3) := dk_180 0 54 (dk_at dksX1_digest_15 12 rfl rfl)
theorem dX1_digest_359 : decode cX1_digest 359 = .ok (.iload 4, 2) := dk_21 4 (dk_at dksX1_digest_15 15 rfl rfl)
theorem dX1_digest_361 : decode cX1_digest 361 = .ok (.invokevirtual 204, 3) := dk_182 0 204 (dk_at dksX1_digest_15 17 rfl rfl)
theorem dX1_digest_364 : decode cX1_digest 364 = .ok (.invokestatic 259, 3) := dk_184 1 3 (dk_at dksX1_digest_15 20 rfl rfl)
theorem dX1_digest_367 : decode cX1_digest 367 = .ok (.i2l, 1) := dk_133 (dk_at dksX1_digest_15 23 rfl rfl)
theorem dX1_digest_368 : decode cX1_digest 368 = .ok (.ladd, 1) := dk_97 (dk_at dksX1_digest_16 0 rfl rfl)
theorem dX1_digest_369 : decode cX1_digest 369 = .ok (.lstore_n 1, 1) := dk_64 (dk_at dksX1_digest_16 1 rfl rfl)
theorem dX1_digest_370 : decode cX1_digest 370 = .ok (.iinc 4 1, 3) := dk_132 4 1 (dk_at dksX1_digest_16 2 rfl rfl)
theorem dX1_digest_373 : decode cX1_digest 373 = .ok (.goto (-52), 3) := dk_167 255 204 (dk_at dksX1_digest_16 5 rfl rfl)
theorem dX1_digest_376 : decode cX1_digest 376 = .ok (.lload_n 1, 1) := dk_31 (dk_at dksX1_digest_16 8 rfl rfl)
theorem dX1_digest_377 : decode cX1_digest 377 = .ok (.lreturn, 1) := dk_173 (dk_at dksX1_digest_16 9 rfl rfl)
theorem fdX1_178_2 : sd_Fd "SofaDig" 178 2 6 := ⟨(RX3, TX3, 12), "SofaDig$Sofa", rfl, by decide, rfl, in_X3, Or.inl rfl, Or.inr ⟨_, q263⟩⟩
theorem fdX1_156_3 : sd_Fd "SofaDig" 156 3 0 := ⟨(RX4, TX4, 4), "SofaDig$Cushion", rfl, by decide, rfl, in_X4, Or.inl rfl, Or.inr ⟨_, q317⟩⟩
abbrev mX1_digest : sd_Y := (yX1_digest, cX1_digest, 8, some (.long), none)
def fX1_digest_b321 (G : sd_G) (k321 : Nat × Int64 × Int32 → sd_M Int64) (w0 : Nat) (w1 : Int64) (w4 : Int32) : sd_M Int64 :=
  sd_bnd (sd_getR G 0 2 w0) fun v18 =>
  sd_bnd (sd_getI G 2 0 v18) fun v19 =>
  if v19 ≤ w4 then (
    sd_ret w1)
  else (
    sd_bnd (sd_getR G 0 2 w0) fun v20 =>
    sd_bnd (sd_isC G 2 v20) fun _ =>
    sd_bnd (fX3_notBefore G v20 w4) fun r21 =>
    sd_bnd (sd_ret ((w1 * 31) + (r21.toInt64))) fun x22 =>
    sd_bnd (sd_getR G 0 2 w0) fun v23 =>
    sd_bnd (sd_isC G 2 v23) fun _ =>
    sd_bnd (fX3_isMixed G v23 w4) fun r24 =>
    sd_bnd (fX1_one G r24) fun r25 =>
    sd_bnd (sd_ret ((x22 * 31) + (r25.toInt64))) fun x26 =>
    sd_bnd (sd_ret (w4 + 1)) fun x27 =>
    k321 (w0, x26, x27))
set_option maxHeartbeats 4000000 in
theorem sX1_digest_b321 (l : Launch) (G : sd_G) (a0 : Nat) (ρ : Int64) (h2 : sd_H) (cT : Nat × Nat) (k321 : Nat × Int64 × Int32 → sd_M Int64) (Hk321 : ∀ (q : Nat × Int64 × Int32) (h : sd_H) (c : Nat × Nat), k321 q h = some (ρ, c, h2) → sd_J mX1_digest ((l, G), (11, 242), [.ref a0], (sd_oL ρ, h2), cT) 321 [(0, .ref q.1), (1, .long q.2.1), (4, .int q.2.2)] [] h c) (w0 : Nat) (w1 : Int64) (w4 : Int32) (h : sd_H) (c : Nat × Nat) (hf : fX1_digest_b321 G k321 w0 w1 w4 h = some (ρ, c, h2)) : sd_J mX1_digest ((l, G), (11, 242), [.ref a0], (sd_oL ρ, h2), cT) 321 [(0, .ref w0), (1, .long w1), (4, .int w4)] [] h c := by
  unfold fX1_digest_b321 at hf
  refine sj_iload 2 dX1_digest_321 rfl ?_
  refine sj_aload_n 0 dX1_digest_323 rfl ?_
  refine sj_getR fdX1_54_0 hf dX1_digest_324 (fun v18 hf => ?_)
  refine sj_getI fdX1_106_2 hf dX1_digest_327 (fun v19 hf => ?_)
  refine sj_icge 376 hf dX1_digest_330 (by decide) (fun g330 hf => ?_) (fun g330 hf => ?_)
  · refine sj_lload_n 1 dX1_digest_376 rfl ?_
    exact sj_lret (o := sd_oL) hf rfl rfl rfl dX1_digest_377
  · refine sj_lload_n 1 dX1_digest_333 rfl ?_
    refine sj_ldc2 q2292 dX1_digest_334 ?_
    refine sj_lmul dX1_digest_337 ?_
    refine sj_aload_n 0 dX1_digest_338 rfl ?_
    refine sj_getR fdX1_54_0 hf dX1_digest_339 (fun v20 hf => ?_)
    refine sj_iload 2 dX1_digest_342 rfl ?_
    obtain ⟨fs344, he344, hf⟩ := sd_isC_some hf
    refine sj_cI (rest := [.long (w1 * 31)]) (fun _ _ _ e => sj_runV (n := 1) (As := [.int w4]) (rest := [.long (w1 * 31)]) (sX3_notBefore l G v20 w4 h _ _ _ e) he344 rfl rfl rfl rfl q2298 q2299 q2300 q118 q2301 (by decide +kernel) rfl rfl ⟨Nat.le_of_ble_eq_true rfl, Nat.le_of_ble_eq_true rfl⟩ rfl (Nat.le_of_ble_eq_true rfl) dX1_digest_344) hf (fun r21 h c hf => ?_)
    refine sj_i2l dX1_digest_347 ?_
    refine sj_ladd dX1_digest_348 ?_
    refine sj_nameL hf (fun x22 hf => ?_)
    refine sj_lstore_n [(1, .long x22), (0, .ref w0), (4, .int w4)] dX1_digest_349 (by decide) rfl ?_
    refine sj_lload_n 0 dX1_digest_350 rfl ?_
    refine sj_ldc2 q2292 dX1_digest_351 ?_
    refine sj_lmul dX1_digest_354 ?_
    refine sj_aload_n 1 dX1_digest_355 rfl ?_
    refine sj_getR fdX1_54_0 hf dX1_digest_356 (fun v23 hf => ?_)
    refine sj_iload 2 dX1_digest_359 rfl ?_
    obtain ⟨fs361, he361, hf⟩ := sd_isC_some hf
    refine sj_cI (rest := [.long (x22 * 31)]) (fun _ _ _ e => sj_runV (n := 1) (As := [.int w4]) (rest := [.long (x22 * 31)]) (sX3_isMixed l G v23 w4 h _ _ _ e) he361 rfl rfl rfl rfl q2304 q2305 q2306 q118 q2307 (by decide +kernel) rfl rfl ⟨Nat.le_of_ble_eq_true rfl, Nat.le_of_ble_eq_true rfl⟩ rfl (Nat.le_of_ble_eq_true rfl) dX1_digest_361) hf (fun r24 h c hf => ?_)
    refine sj_cI (rest := [.long (x22 * 31)]) (fun _ _ _ e => sj_runS (n := 1) (rest := [.long (x22 * 31)]) (sX1_one l G r24 h _ _ _ e) rfl rfl q2294 q2295 q116 q2296 (by decide +kernel) rfl ⟨Nat.le_of_ble_eq_true rfl, Nat.le_of_ble_eq_true rfl⟩ rfl (Nat.le_of_ble_eq_true rfl) dX1_digest_364) hf (fun r25 h c hf => ?_)
    refine sj_i2l dX1_digest_367 ?_
    refine sj_ladd dX1_digest_368 ?_
    refine sj_nameL hf (fun x26 hf => ?_)
    refine sj_lstore_n [(1, .long x26), (0, .ref w0), (4, .int w4)] dX1_digest_369 (by decide) rfl ?_
    refine sj_iincN 2 (fun x27 => [(4, .int x27), (1, .long x26), (0, .ref w0)]) 1 hf dX1_digest_370 rfl (by decide) (by decide) (fun _ => rfl) (fun x27 hf => ?_)
    refine sj_goto 321 dX1_digest_373 (by decide) ?_
    exact sj_loc [2, 1, 0] rfl (Hk321 (w0, x26, x27) _ _ hf)
theorem sX1_digest_b321_loop (l : Launch) (G : sd_G) (a0 : Nat) (ρ : Int64) (h2 : sd_H) (cT : Nat × Nat) (n : Nat) : ∀ (q : Nat × Int64 × Int32) (h : sd_H) (c : Nat × Nat), sd_loop (fun k s => fX1_digest_b321 G k s.1 s.2.1 s.2.2) n q h = some (ρ, c, h2) → sd_J mX1_digest ((l, G), (11, 242), [.ref a0], (sd_oL ρ, h2), cT) 321 [(0, .ref q.1), (1, .long q.2.1), (4, .int q.2.2)] [] h c := by
  induction n with
  | zero => intro q h c hf; cases hf
  | succ n ih => intro q h c hf; exact sX1_digest_b321 l G a0 ρ h2 cT _ ih _ _ _ _ _ hf
def fX1_digest_b306 (G : sd_G) (k238 : Nat × Int64 × Int32 → sd_M Int64) (w0 : Nat) (w4 : Int32) (y0 : Int32) (y1 : Int64) : sd_M Int64 :=
  sd_bnd (fX1_one G y0) fun r36 =>
  sd_bnd (sd_ret (y1 + (r36.toInt64))) fun x37 =>
  sd_bnd (sd_ret (w4 + 1)) fun x38 =>
  k238 (w0, x37, x38)
set_option maxHeartbeats 4000000 in
theorem sX1_digest_b306 (l : Launch) (G : sd_G) (a0 : Nat) (ρ : Int64) (h2 : sd_H) (cT : Nat × Nat) (k238 : Nat × Int64 × Int32 → sd_M Int64) (Hk238 : ∀ (q : Nat × Int64 × Int32) (h : sd_H) (c : Nat × Nat), k238 q h = some (ρ, c, h2) → sd_J mX1_digest ((l, G), (11, 242), [.ref a0], (sd_oL ρ, h2), cT) 238 [(0, .ref q.1), (1, .long q.2.1), (4, .int q.2.2)] [] h c) (w0 : Nat) (w4 : Int32) (y0 : Int32) (y1 : Int64) (h : sd_H) (c : Nat × Nat) (hf : fX1_digest_b306 G k238 w0 w4 y0 y1 h = some (ρ, c, h2)) : sd_J mX1_digest ((l, G), (11, 242), [.ref a0], (sd_oL ρ, h2), cT) 306 [(0, .ref w0), (4, .int w4)] [.int y0, .long y1] h c := by
  unfold fX1_digest_b306 at hf
  refine sj_cI (rest := [.long y1]) (fun _ _ _ e => sj_runS (n := 1) (rest := [.long y1]) (sX1_one l G y0 h _ _ _ e) rfl rfl q2294 q2295 q116 q2296 (by decide +kernel) rfl ⟨Nat.le_of_ble_eq_true rfl, Nat.le_of_ble_eq_true rfl⟩ rfl (Nat.le_of_ble_eq_true rfl) dX1_digest_306) hf (fun r36 h c hf => ?_)
  refine sj_i2l dX1_digest_309 ?_
  refine sj_ladd dX1_digest_310 ?_
  refine sj_nameL hf (fun x37 hf => ?_)
  refine sj_lstore_n [(1, .long x37), (0, .ref w0), (4, .int w4)] dX1_digest_311 (by decide) rfl ?_
  refine sj_iincN 2 (fun x38 => [(4, .int x38), (1, .long x37), (0, .ref w0)]) 1 hf dX1_digest_312 rfl (by decide) (by decide) (fun _ => rfl) (fun x38 hf => ?_)
  refine sj_goto 238 dX1_digest_315 (by decide) ?_
  exact sj_loc [2, 1, 0] rfl (Hk238 (w0, x37, x38) _ _ hf)
def fX1_digest_b276 (G : sd_G) (k238 : Nat × Int64 × Int32 → sd_M Int64) (w0 : Nat) (w4 : Int32) (y0 : Int32) (y1 : Int64) : sd_M Int64 :=
  sd_bnd (fX1_one G y0) fun r31 =>
  sd_bnd (sd_ret (y1 + (r31.toInt64))) fun x32 =>
  sd_bnd (sd_getR G 0 2 w0) fun v33 =>
  sd_bnd (sd_getR G 2 6 v33) fun v34 =>
  sd_bnd (sd_aldI G 0 v34 w4) fun v35 =>
  if v35 = 1 then (
    fX1_digest_b306 G k238 w0 w4 1 (x32 * 31))
  else (
    fX1_digest_b306 G k238 w0 w4 0 (x32 * 31))
set_option maxHeartbeats 4000000 in
theorem sX1_digest_b276 (l : Launch) (G : sd_G) (a0 : Nat) (ρ : Int64) (h2 : sd_H) (cT : Nat × Nat) (k238 : Nat × Int64 × Int32 → sd_M Int64) (Hk238 : ∀ (q : Nat × Int64 × Int32) (h : sd_H) (c : Nat × Nat), k238 q h = some (ρ, c, h2) → sd_J mX1_digest ((l, G), (11, 242), [.ref a0], (sd_oL ρ, h2), cT) 238 [(0, .ref q.1), (1, .long q.2.1), (4, .int q.2.2)] [] h c) (w0 : Nat) (w4 : Int32) (y0 : Int32) (y1 : Int64) (h : sd_H) (c : Nat × Nat) (hf : fX1_digest_b276 G k238 w0 w4 y0 y1 h = some (ρ, c, h2)) : sd_J mX1_digest ((l, G), (11, 242), [.ref a0], (sd_oL ρ, h2), cT) 276 [(0, .ref w0), (4, .int w4)] [.int y0, .long y1] h c := by
  unfold fX1_digest_b276 at hf
  refine sj_cI (rest := [.long y1]) (fun _ _ _ e => sj_runS (n := 1) (rest := [.long y1]) (sX1_one l G y0 h _ _ _ e) rfl rfl q2294 q2295 q116 q2296 (by decide +kernel) rfl ⟨Nat.le_of_ble_eq_true rfl, Nat.le_of_ble_eq_true rfl⟩ rfl (Nat.le_of_ble_eq_true rfl) dX1_digest_276) hf (fun r31 h c hf => ?_)
  refine sj_i2l dX1_digest_279 ?_
  refine sj_ladd dX1_digest_280 ?_
  refine sj_nameL hf (fun x32 hf => ?_)
  refine sj_lstore_n [(1, .long x32), (0, .ref w0), (4, .int w4)] dX1_digest_281 (by decide) rfl ?_
  refine sj_lload_n 0 dX1_digest_282 rfl ?_
  refine sj_ldc2 q2292 dX1_digest_283 ?_
  refine sj_lmul dX1_digest_286 ?_
  refine sj_aload_n 1 dX1_digest_287 rfl ?_
  refine sj_getR fdX1_54_0 hf dX1_digest_288 (fun v33 hf => ?_)
  refine sj_getR fdX1_178_2 hf dX1_digest_291 (fun v34 hf => ?_)
  refine sj_iload 2 dX1_digest_294 rfl ?_
  refine sj_iald hf dX1_digest_296 (fun v35 hf => ?_)
  refine sj_iconst (v := 1) dX1_digest_297 (by decide) ?_
  refine sj_icne 305 hf dX1_digest_298 (by decide) (fun g298 hf => ?_) (fun g298 hf => ?_)
  · refine sj_iconst (v := 0) dX1_digest_305 (by decide) ?_
    exact sj_loc [1, 2] rfl (sX1_digest_b306 l G a0 ρ h2 cT k238 Hk238 w0 w4 0 (x32 * 31) _ _ hf)
  · refine sj_iconst (v := 1) dX1_digest_301 (by decide) ?_
    refine sj_goto 306 dX1_digest_302 (by decide) ?_
    exact sj_loc [1, 2] rfl (sX1_digest_b306 l G a0 ρ h2 cT k238 Hk238 w0 w4 1 (x32 * 31) _ _ hf)
def fX1_digest_b238 (G : sd_G) (k238 : Nat × Int64 × Int32 → sd_M Int64) (w0 : Nat) (w1 : Int64) (w4 : Int32) : sd_M Int64 :=
  sd_bnd (sd_getR G 0 2 w0) fun v15 =>
  sd_bnd (sd_getR G 2 4 v15) fun v16 =>
  sd_bnd (sd_isC G 41 v16) fun _ =>
  sd_bnd (fJ2_size G v16) fun r17 =>
  if r17 ≤ w4 then (
    sd_loop (fun k s => fX1_digest_b321 G k s.1 s.2.1 s.2.2) sd_FU (w0, w1, 0))
  else (
    sd_bnd (sd_getR G 0 2 w0) fun v28 =>
    sd_bnd (sd_getR G 2 6 v28) fun v29 =>
    sd_bnd (sd_aldI G 0 v29 w4) fun v30 =>
    if v30 = 0 then (
      fX1_digest_b276 G k238 w0 w4 0 (w1 * 31))
    else (
      fX1_digest_b276 G k238 w0 w4 1 (w1 * 31)))
set_option maxHeartbeats 4000000 in
theorem sX1_digest_b238 (l : Launch) (G : sd_G) (a0 : Nat) (ρ : Int64) (h2 : sd_H) (cT : Nat × Nat) (k238 : Nat × Int64 × Int32 → sd_M Int64) (Hk238 : ∀ (q : Nat × Int64 × Int32) (h : sd_H) (c : Nat × Nat), k238 q h = some (ρ, c, h2) → sd_J mX1_digest ((l, G), (11, 242), [.ref a0], (sd_oL ρ, h2), cT) 238 [(0, .ref q.1), (1, .long q.2.1), (4, .int q.2.2)] [] h c) (w0 : Nat) (w1 : Int64) (w4 : Int32) (h : sd_H) (c : Nat × Nat) (hf : fX1_digest_b238 G k238 w0 w1 w4 h = some (ρ, c, h2)) : sd_J mX1_digest ((l, G), (11, 242), [.ref a0], (sd_oL ρ, h2), cT) 238 [(0, .ref w0), (1, .long w1), (4, .int w4)] [] h c := by
  unfold fX1_digest_b238 at hf
  refine sj_iload 2 dX1_digest_238 rfl ?_
  refine sj_aload_n 0 dX1_digest_240 rfl ?_
  refine sj_getR fdX1_54_0 hf dX1_digest_241 (fun v15 hf => ?_)
  refine sj_getR fdX1_109_2 hf dX1_digest_244 (fun v16 hf => ?_)
  obtain ⟨fs247, he247, hf⟩ := sd_isC_some hf
  refine sj_cI (rest := [.int w4]) (fun _ _ _ e => sj_runV (n := 0) (As := []) (rest := [.int w4]) (sJ2_size l G v16 h _ _ _ e) he247 rfl rfl rfl rfl q2104 q490 q491 q121 q492 (by decide +kernel) rfl rfl ⟨Nat.le_of_ble_eq_true rfl, Nat.le_of_ble_eq_true rfl⟩ rfl (Nat.le_of_ble_eq_true rfl) dX1_digest_247) hf (fun r17 h c hf => ?_)
  refine sj_icge 318 hf dX1_digest_250 (by decide) (fun g250 hf => ?_) (fun g250 hf => ?_)
  · refine sj_iconst (v := 0) dX1_digest_318 (by decide) ?_
    refine sj_istore [(4, .int 0), (0, .ref w0), (1, .long w1)] dX1_digest_319 (by decide) rfl ?_
    exact sj_loc [1, 2, 0] rfl (sX1_digest_b321_loop l G a0 ρ h2 cT sd_FU (w0, w1, 0) _ _ hf)
  · refine sj_lload_n 1 dX1_digest_253 rfl ?_
    refine sj_ldc2 q2292 dX1_digest_254 ?_
    refine sj_lmul dX1_digest_257 ?_
    refine sj_aload_n 0 dX1_digest_258 rfl ?_
    refine sj_getR fdX1_54_0 hf dX1_digest_259 (fun v28 hf => ?_)
    refine sj_getR fdX1_178_2 hf dX1_digest_262 (fun v29 hf => ?_)
    refine sj_iload 2 dX1_digest_265 rfl ?_
    refine sj_iald hf dX1_digest_267 (fun v30 hf => ?_)
    refine sj_ifeq 275 hf dX1_digest_268 (by decide) (fun g268 hf => ?_) (fun g268 hf => ?_)
    · refine sj_iconst (v := 0) dX1_digest_275 (by decide) ?_
      exact sj_loc [0, 2] rfl (sX1_digest_b276 l G a0 ρ h2 cT k238 Hk238 w0 w4 0 (w1 * 31) _ _ hf)
    · refine sj_iconst (v := 1) dX1_digest_271 (by decide) ?_
      refine sj_goto 276 dX1_digest_272 (by decide) ?_
      exact sj_loc [0, 2] rfl (sX1_digest_b276 l G a0 ρ h2 cT k238 Hk238 w0 w4 1 (w1 * 31) _ _ hf)
theorem sX1_digest_b238_loop (l : Launch) (G : sd_G) (a0 : Nat) (ρ : Int64) (h2 : sd_H) (cT : Nat × Nat) (n : Nat) : ∀ (q : Nat × Int64 × Int32) (h : sd_H) (c : Nat × Nat), sd_loop (fun k s => fX1_digest_b238 G k s.1 s.2.1 s.2.2) n q h = some (ρ, c, h2) → sd_J mX1_digest ((l, G), (11, 242), [.ref a0], (sd_oL ρ, h2), cT) 238 [(0, .ref q.1), (1, .long q.2.1), (4, .int q.2.2)] [] h c := by
  induction n with
  | zero => intro q h c hf; cases hf
  | succ n ih => intro q h c hf; exact sX1_digest_b238 l G a0 ρ h2 cT _ ih _ _ _ _ _ hf
def fX1_digest_b127 (G : sd_G) (k127 : Nat × Int64 × Int32 → sd_M Int64) (w0 : Nat) (w1 : Int64) (w4 : Int32) : sd_M Int64 :=
  sd_bnd (sd_getR G 0 2 w0) fun v13 =>
  sd_bnd (sd_getI G 2 1 v13) fun v14 =>
  if v14 ≤ w4 then (
    sd_loop (fun k s => fX1_digest_b238 G k s.1 s.2.1 s.2.2) sd_FU (w0, w1, 0))
  else (
    sd_bnd (sd_getR G 0 2 w0) fun v39 =>
    sd_bnd (sd_isC G 2 v39) fun _ =>
    sd_bnd (fX3_height G v39 w4) fun r40 =>
    sd_bnd (sd_ret ((w1 * 31) + (r40.toInt64))) fun x41 =>
    sd_bnd (sd_getR G 0 2 w0) fun v42 =>
    sd_bnd (sd_isC G 2 v42) fun _ =>
    sd_bnd (fX3_isPropped G v42 w4) fun r43 =>
    sd_bnd (fX1_one G r43) fun r44 =>
    sd_bnd (sd_ret ((x41 * 31) + (r44.toInt64))) fun x45 =>
    sd_bnd (sd_getR G 0 2 w0) fun v46 =>
    sd_bnd (sd_isC G 2 v46) fun _ =>
    sd_bnd (fX3_left G v46 w4) fun r47 =>
    sd_bnd (sd_ret ((x45 * 31) + (r47.toInt64))) fun x48 =>
    sd_bnd (sd_getR G 0 2 w0) fun v49 =>
    sd_bnd (sd_isC G 2 v49) fun _ =>
    sd_bnd (fX3_height G v49 w4) fun r50 =>
    if r50 = 0 then (
      sd_bnd (sd_ret ((x48 * 31) + (((-1) : Int32).toInt64))) fun x56 =>
      sd_bnd (sd_ret (w4 + 1)) fun x57 =>
      k127 (w0, x56, x57))
    else (
      sd_bnd (sd_getR G 0 2 w0) fun v51 =>
      sd_bnd (sd_isC G 2 v51) fun _ =>
      sd_bnd (fX3_top G v51 w4) fun r52 =>
      sd_bnd (sd_getI G 3 0 r52) fun v53 =>
      sd_bnd (sd_ret ((x48 * 31) + (v53.toInt64))) fun x54 =>
      sd_bnd (sd_ret (w4 + 1)) fun x55 =>
      k127 (w0, x54, x55)))
set_option maxHeartbeats 4000000 in
theorem sX1_digest_b127 (l : Launch) (G : sd_G) (a0 : Nat) (ρ : Int64) (h2 : sd_H) (cT : Nat × Nat) (k127 : Nat × Int64 × Int32 → sd_M Int64) (Hk127 : ∀ (q : Nat × Int64 × Int32) (h : sd_H) (c : Nat × Nat), k127 q h = some (ρ, c, h2) → sd_J mX1_digest ((l, G), (11, 242), [.ref a0], (sd_oL ρ, h2), cT) 127 [(0, .ref q.1), (1, .long q.2.1), (4, .int q.2.2)] [] h c) (w0 : Nat) (w1 : Int64) (w4 : Int32) (h : sd_H) (c : Nat × Nat) (hf : fX1_digest_b127 G k127 w0 w1 w4 h = some (ρ, c, h2)) : sd_J mX1_digest ((l, G), (11, 242), [.ref a0], (sd_oL ρ, h2), cT) 127 [(0, .ref w0), (1, .long w1), (4, .int w4)] [] h c := by
  unfold fX1_digest_b127 at hf
  refine sj_iload 2 dX1_digest_127 rfl ?_
  refine sj_aload_n 0 dX1_digest_129 rfl ?_
  refine sj_getR fdX1_54_0 hf dX1_digest_130 (fun v13 hf => ?_)
  refine sj_getI fdX1_99_2 hf dX1_digest_133 (fun v14 hf => ?_)
  refine sj_icge 235 hf dX1_digest_136 (by decide) (fun g136 hf => ?_) (fun g136 hf => ?_)
  · refine sj_iconst (v := 0) dX1_digest_235 (by decide) ?_
    refine sj_istore [(4, .int 0), (0, .ref w0), (1, .long w1)] dX1_digest_236 (by decide) rfl ?_
    exact sj_loc [1, 2, 0] rfl (sX1_digest_b238_loop l G a0 ρ h2 cT sd_FU (w0, w1, 0) _ _ hf)
  · refine sj_lload_n 1 dX1_digest_139 rfl ?_
    refine sj_ldc2 q2292 dX1_digest_140 ?_
    refine sj_lmul dX1_digest_143 ?_
    refine sj_aload_n 0 dX1_digest_144 rfl ?_
    refine sj_getR fdX1_54_0 hf dX1_digest_145 (fun v39 hf => ?_)
    refine sj_iload 2 dX1_digest_148 rfl ?_
    obtain ⟨fs150, he150, hf⟩ := sd_isC_some hf
    refine sj_cI (rest := [.long (w1 * 31)]) (fun _ _ _ e => sj_runV (n := 1) (As := [.int w4]) (rest := [.long (w1 * 31)]) (sX3_height l G v39 w4 h _ _ _ e) he150 rfl rfl rfl rfl q2154 q2155 q2156 q118 q2157 (by decide +kernel) rfl rfl ⟨Nat.le_of_ble_eq_true rfl, Nat.le_of_ble_eq_true rfl⟩ rfl (Nat.le_of_ble_eq_true rfl) dX1_digest_150) hf (fun r40 h c hf => ?_)
    refine sj_i2l dX1_digest_153 ?_
    refine sj_ladd dX1_digest_154 ?_
    refine sj_nameL hf (fun x41 hf => ?_)
    refine sj_lstore_n [(1, .long x41), (0, .ref w0), (4, .int w4)] dX1_digest_155 (by decide) rfl ?_
    refine sj_lload_n 0 dX1_digest_156 rfl ?_
    refine sj_ldc2 q2292 dX1_digest_157 ?_
    refine sj_lmul dX1_digest_160 ?_
    refine sj_aload_n 1 dX1_digest_161 rfl ?_
    refine sj_getR fdX1_54_0 hf dX1_digest_162 (fun v42 hf => ?_)
    refine sj_iload 2 dX1_digest_165 rfl ?_
    obtain ⟨fs167, he167, hf⟩ := sd_isC_some hf
    refine sj_cI (rest := [.long (x41 * 31)]) (fun _ _ _ e => sj_runV (n := 1) (As := [.int w4]) (rest := [.long (x41 * 31)]) (sX3_isPropped l G v42 w4 h _ _ _ e) he167 rfl rfl rfl rfl q2293 q2147 q2148 q118 q2149 (by decide +kernel) rfl rfl ⟨Nat.le_of_ble_eq_true rfl, Nat.le_of_ble_eq_true rfl⟩ rfl (Nat.le_of_ble_eq_true rfl) dX1_digest_167) hf (fun r43 h c hf => ?_)
    refine sj_cI (rest := [.long (x41 * 31)]) (fun _ _ _ e => sj_runS (n := 1) (rest := [.long (x41 * 31)]) (sX1_one l G r43 h _ _ _ e) rfl rfl q2294 q2295 q116 q2296 (by decide +kernel) rfl ⟨Nat.le_of_ble_eq_true rfl, Nat.le_of_ble_eq_true rfl⟩ rfl (Nat.le_of_ble_eq_true rfl) dX1_digest_170) hf (fun r44 h c hf => ?_)
    refine sj_i2l dX1_digest_173 ?_
    refine sj_ladd dX1_digest_174 ?_
    refine sj_nameL hf (fun x45 hf => ?_)
    refine sj_lstore_n [(1, .long x45), (0, .ref w0), (4, .int w4)] dX1_digest_175 (by decide) rfl ?_
    refine sj_lload_n 0 dX1_digest_176 rfl ?_
    refine sj_ldc2 q2292 dX1_digest_177 ?_
    refine sj_lmul dX1_digest_180 ?_
    refine sj_aload_n 1 dX1_digest_181 rfl ?_
    refine sj_getR fdX1_54_0 hf dX1_digest_182 (fun v46 hf => ?_)
    refine sj_iload 2 dX1_digest_185 rfl ?_
    obtain ⟨fs187, he187, hf⟩ := sd_isC_some hf
    refine sj_cI (rest := [.long (x45 * 31)]) (fun _ _ _ e => sj_runV (n := 1) (As := [.int w4]) (rest := [.long (x45 * 31)]) (sX3_left l G v46 w4 h _ _ _ e) he187 rfl rfl rfl rfl q2264 q2265 q2266 q118 q2267 (by decide +kernel) rfl rfl ⟨Nat.le_of_ble_eq_true rfl, Nat.le_of_ble_eq_true rfl⟩ rfl (Nat.le_of_ble_eq_true rfl) dX1_digest_187) hf (fun r47 h c hf => ?_)
    refine sj_i2l dX1_digest_190 ?_
    refine sj_ladd dX1_digest_191 ?_
    refine sj_nameL hf (fun x48 hf => ?_)
    refine sj_lstore_n [(1, .long x48), (0, .ref w0), (4, .int w4)] dX1_digest_192 (by decide) rfl ?_
    refine sj_lload_n 0 dX1_digest_193 rfl ?_
    refine sj_ldc2 q2292 dX1_digest_194 ?_
    refine sj_lmul dX1_digest_197 ?_
    refine sj_aload_n 1 dX1_digest_198 rfl ?_
    refine sj_getR fdX1_54_0 hf dX1_digest_199 (fun v49 hf => ?_)
    refine sj_iload 2 dX1_digest_202 rfl ?_
    obtain ⟨fs204, he204, hf⟩ := sd_isC_some hf
    refine sj_cI (rest := [.long (x48 * 31)]) (fun _ _ _ e => sj_runV (n := 1) (As := [.int w4]) (rest := [.long (x48 * 31)]) (sX3_height l G v49 w4 h _ _ _ e) he204 rfl rfl rfl rfl q2154 q2155 q2156 q118 q2157 (by decide +kernel) rfl rfl ⟨Nat.le_of_ble_eq_true rfl, Nat.le_of_ble_eq_true rfl⟩ rfl (Nat.le_of_ble_eq_true rfl) dX1_digest_204) hf (fun r50 h c hf => ?_)
    refine sj_ifne 214 hf dX1_digest_207 (by decide) (fun g207 hf => ?_) (fun g207 hf => ?_)
    · refine sj_aload_n 1 dX1_digest_214 rfl ?_
      refine sj_getR fdX1_54_0 hf dX1_digest_215 (fun v51 hf => ?_)
      refine sj_iload 2 dX1_digest_218 rfl ?_
      obtain ⟨fs220, he220, hf⟩ := sd_isC_some hf
      refine sj_cR (rest := [.long (x48 * 31)]) (fun _ _ _ e => sj_runV (n := 1) (As := [.int w4]) (rest := [.long (x48 * 31)]) (sX3_top l G v51 w4 h _ _ _ e) he220 rfl rfl rfl rfl q2297 q2240 q2241 q118 q2242 (by decide +kernel) rfl rfl ⟨Nat.le_of_ble_eq_true rfl, Nat.le_of_ble_eq_true rfl⟩ rfl (Nat.le_of_ble_eq_true rfl) dX1_digest_220) hf (fun r52 h c hf => ?_)
      refine sj_getI fdX1_156_3 hf dX1_digest_223 (fun v53 hf => ?_)
      refine sj_i2l dX1_digest_226 ?_
      refine sj_ladd dX1_digest_227 ?_
      refine sj_nameL hf (fun x54 hf => ?_)
      refine sj_lstore_n [(1, .long x54), (0, .ref w0), (4, .int w4)] dX1_digest_228 (by decide) rfl ?_
      refine sj_iincN 2 (fun x55 => [(4, .int x55), (1, .long x54), (0, .ref w0)]) 1 hf dX1_digest_229 rfl (by decide) (by decide) (fun _ => rfl) (fun x55 hf => ?_)
      refine sj_goto 127 dX1_digest_232 (by decide) ?_
      exact sj_loc [2, 1, 0] rfl (Hk127 (w0, x54, x55) _ _ hf)
    · refine sj_iconst (v := (-1)) dX1_digest_210 (by decide) ?_
      refine sj_goto 226 dX1_digest_211 (by decide) ?_
      refine sj_i2l dX1_digest_226 ?_
      refine sj_ladd dX1_digest_227 ?_
      refine sj_nameL hf (fun x56 hf => ?_)
      refine sj_lstore_n [(1, .long x56), (0, .ref w0), (4, .int w4)] dX1_digest_228 (by decide) rfl ?_
      refine sj_iincN 2 (fun x57 => [(4, .int x57), (1, .long x56), (0, .ref w0)]) 1 hf dX1_digest_229 rfl (by decide) (by decide) (fun _ => rfl) (fun x57 hf => ?_)
      refine sj_goto 127 dX1_digest_232 (by decide) ?_
      exact sj_loc [2, 1, 0] rfl (Hk127 (w0, x56, x57) _ _ hf)
theorem sX1_digest_b127_loop (l : Launch) (G : sd_G) (a0 : Nat) (ρ : Int64) (h2 : sd_H) (cT : Nat × Nat) (n : Nat) : ∀ (q : Nat × Int64 × Int32) (h : sd_H) (c : Nat × Nat), sd_loop (fun k s => fX1_digest_b127 G k s.1 s.2.1 s.2.2) n q h = some (ρ, c, h2) → sd_J mX1_digest ((l, G), (11, 242), [.ref a0], (sd_oL ρ, h2), cT) 127 [(0, .ref q.1), (1, .long q.2.1), (4, .int q.2.2)] [] h c := by
  induction n with
  | zero => intro q h c hf; cases hf
  | succ n ih => intro q h c hf; exact sX1_digest_b127 l G a0 ρ h2 cT _ ih _ _ _ _ _ hf
def fX1_digest_b94 (G : sd_G) (k94 : Nat × Int64 × Nat × Int32 × Int32 → sd_M Int64) (w0 : Nat) (w1 : Int64) (w4 : Nat) (w5 : Int32) (w6 : Int32) : sd_M Int64 :=
  if w5 ≤ w6 then (
    sd_loop (fun k s => fX1_digest_b127 G k s.1 s.2.1 s.2.2) sd_FU (w0, w1, 0))
  else (
    sd_bnd (sd_aldI G 0 w4 w6) fun v58 =>
    sd_bnd (sd_ret ((w1 * 31) + (v58.toInt64))) fun x59 =>
    sd_bnd (sd_ret (w6 + 1)) fun x60 =>
    k94 (w0, x59, w4, w5, x60))
set_option maxHeartbeats 4000000 in
theorem sX1_digest_b94 (l : Launch) (G : sd_G) (a0 : Nat) (ρ : Int64) (h2 : sd_H) (cT : Nat × Nat) (k94 : Nat × Int64 × Nat × Int32 × Int32 → sd_M Int64) (Hk94 : ∀ (q : Nat × Int64 × Nat × Int32 × Int32) (h : sd_H) (c : Nat × Nat), k94 q h = some (ρ, c, h2) → sd_J mX1_digest ((l, G), (11, 242), [.ref a0], (sd_oL ρ, h2), cT) 94 [(0, .ref q.1), (1, .long q.2.1), (4, .ref q.2.2.1), (5, .int q.2.2.2.1), (6, .int q.2.2.2.2)] [] h c) (w0 : Nat) (w1 : Int64) (w4 : Nat) (w5 : Int32) (w6 : Int32) (h : sd_H) (c : Nat × Nat) (hf : fX1_digest_b94 G k94 w0 w1 w4 w5 w6 h = some (ρ, c, h2)) : sd_J mX1_digest ((l, G), (11, 242), [.ref a0], (sd_oL ρ, h2), cT) 94 [(0, .ref w0), (1, .long w1), (4, .ref w4), (5, .int w5), (6, .int w6)] [] h c := by
  unfold fX1_digest_b94 at hf
  refine sj_iload 4 dX1_digest_94 rfl ?_
  refine sj_iload 3 dX1_digest_96 rfl ?_
  refine sj_icge 124 hf dX1_digest_98 (by decide) (fun g98 hf => ?_) (fun g98 hf => ?_)
  · refine sj_iconst (v := 0) dX1_digest_124 (by decide) ?_
    refine sj_istore [(4, .int 0), (0, .ref w0), (1, .long w1), (5, .int w5), (6, .int w6)] dX1_digest_125 (by decide) rfl ?_
    exact sj_loc [1, 2, 0] rfl (sX1_digest_b127_loop l G a0 ρ h2 cT sd_FU (w0, w1, 0) _ _ hf)
  · refine sj_aload 2 dX1_digest_101 rfl ?_
    refine sj_iload 4 dX1_digest_103 rfl ?_
    refine sj_iald hf dX1_digest_105 (fun v58 hf => ?_)
    refine sj_istore [(7, .int v58), (0, .ref w0), (1, .long w1), (4, .ref w4), (5, .int w5), (6, .int w6)] dX1_digest_106 (by decide) rfl ?_
    refine sj_lload_n 2 dX1_digest_108 rfl ?_
    refine sj_ldc2 q2292 dX1_digest_109 ?_
    refine sj_lmul dX1_digest_112 ?_
    refine sj_iload 0 dX1_digest_113 rfl ?_
    refine sj_i2l dX1_digest_115 ?_
    refine sj_ladd dX1_digest_116 ?_
    refine sj_nameL hf (fun x59 hf => ?_)
    refine sj_lstore_n [(1, .long x59), (7, .int v58), (0, .ref w0), (4, .ref w4), (5, .int w5), (6, .int w6)] dX1_digest_117 (by decide) rfl ?_
    refine sj_iincN 5 (fun x60 => [(6, .int x60), (1, .long x59), (7, .int v58), (0, .ref w0), (4, .ref w4), (5, .int w5)]) 1 hf dX1_digest_118 rfl (by decide) (by decide) (fun _ => rfl) (fun x60 hf => ?_)
    refine sj_goto 94 dX1_digest_121 (by decide) ?_
    exact sj_loc [3, 1, 4, 5, 0] rfl (Hk94 (w0, x59, w4, w5, x60) _ _ hf)
theorem sX1_digest_b94_loop (l : Launch) (G : sd_G) (a0 : Nat) (ρ : Int64) (h2 : sd_H) (cT : Nat × Nat) (n : Nat) : ∀ (q : Nat × Int64 × Nat × Int32 × Int32) (h : sd_H) (c : Nat × Nat), sd_loop (fun k s => fX1_digest_b94 G k s.1 s.2.1 s.2.2.1 s.2.2.2.1 s.2.2.2.2) n q h = some (ρ, c, h2) → sd_J mX1_digest ((l, G), (11, 242), [.ref a0], (sd_oL ρ, h2), cT) 94 [(0, .ref q.1), (1, .long q.2.1), (4, .ref q.2.2.1), (5, .int q.2.2.2.1), (6, .int q.2.2.2.2)] [] h c := by
  induction n with
  | zero => intro q h c hf; cases hf
  | succ n ih => intro q h c hf; exact sX1_digest_b94 l G a0 ρ h2 cT _ ih _ _ _ _ _ _ _ hf
def fX1_digest (G : sd_G) (a0 : Nat) : sd_M Int64 :=
  sd_bnd (sd_newI 0 10) fun o1 =>
  sd_bnd (sd_isC G 0 a0) fun _ =>
  sd_bnd (fX1_seats G a0) fun r2 =>
  sd_bnd (sd_astI 0 o1 0 r2) fun _ =>
  sd_bnd (sd_isC G 0 a0) fun _ =>
  sd_bnd (fX1_strata G a0) fun r3 =>
  sd_bnd (sd_astI 0 o1 1 r3) fun _ =>
  sd_bnd (sd_isC G 0 a0) fun _ =>
  sd_bnd (fX1_finds G a0) fun r4 =>
  sd_bnd (sd_astI 0 o1 2 r4) fun _ =>
  sd_bnd (sd_isC G 0 a0) fun _ =>
  sd_bnd (fX1_days G a0) fun r5 =>
  sd_bnd (sd_astI 0 o1 3 r5) fun _ =>
  sd_bnd (sd_isC G 0 a0) fun _ =>
  sd_bnd (fX1_ordersCarriedOut G a0) fun r6 =>
  sd_bnd (sd_astI 0 o1 4 r6) fun _ =>
  sd_bnd (sd_isC G 0 a0) fun _ =>
  sd_bnd (fX1_cushionsDug G a0) fun r7 =>
  sd_bnd (sd_astI 0 o1 5 r7) fun _ =>
  sd_bnd (sd_isC G 0 a0) fun _ =>
  sd_bnd (fX1_slides G a0) fun r8 =>
  sd_bnd (sd_astI 0 o1 6 r8) fun _ =>
  sd_bnd (sd_isC G 0 a0) fun _ =>
  sd_bnd (fX1_found G a0) fun r9 =>
  sd_bnd (sd_astI 0 o1 7 r9) fun _ =>
  sd_bnd (sd_isC G 0 a0) fun _ =>
  sd_bnd (fX1_sureFinds G a0) fun r10 =>
  sd_bnd (sd_astI 0 o1 8 r10) fun _ =>
  sd_bnd (sd_isC G 0 a0) fun _ =>
  sd_bnd (fX1_bestDig G a0) fun r11 =>
  sd_bnd (sd_astI 0 o1 9 r11) fun _ =>
  sd_bnd (sd_alen G o1) fun v12 =>
  sd_loop (fun k s => fX1_digest_b94 G k s.1 s.2.1 s.2.2.1 s.2.2.2.1 s.2.2.2.2) sd_FU (a0, 1021, o1, v12, 0)
set_option maxHeartbeats 4000000 in
theorem sX1_digest (l : Launch) (G : sd_G) (a0 : Nat) (h : sd_H) (ρ : Int64) (cT : Nat × Nat) (h2 : sd_H) (hf : fX1_digest G a0 h = some (ρ, cT, h2)) : sd_Met mX1_digest ((l, G), (11, 242), [.ref a0], (sd_oL ρ, h2), cT) h := by
  refine sd_entry (plainFor_of_name rfl) rfl (Nat.le_of_ble_eq_true rfl) ?_
  show sd_J mX1_digest ((l, G), (11, 242), [.ref a0], (sd_oL ρ, h2), cT) 0 [(0, .ref a0)] [] h cT
  unfold fX1_digest at hf
  refine sj_ldc2 q2281 dX1_digest_0 ?_
  refine sj_lstore_n [(1, .long 1021), (0, .ref a0)] dX1_digest_3 (by decide) rfl ?_
  refine sj_bipush (v := 10) dX1_digest_4 (by decide) ?_
  refine sj_newI (atype := .int) q300 rfl rfl (by decide) sd_p0 hf dX1_digest_6 (fun o1 h c hf => ?_)
  refine sj_dup dX1_digest_8 rfl ?_
  refine sj_iconst (v := 0) dX1_digest_9 (by decide) ?_
  refine sj_aload_n 1 dX1_digest_10 rfl ?_
  obtain ⟨fs11, he11, hf⟩ := sd_isC_some hf
  refine sj_cI (rest := [.int 0, .ref o1, .ref o1]) (fun _ _ _ e => sj_runV (n := 0) (As := []) (rest := [.int 0, .ref o1, .ref o1]) (sX1_seats l G a0 h _ _ _ e) he11 rfl rfl rfl rfl q2282 q2093 q2094 q116 q2095 (by decide +kernel) rfl rfl ⟨Nat.le_of_ble_eq_true rfl, Nat.le_of_ble_eq_true rfl⟩ rfl (Nat.le_of_ble_eq_true rfl) dX1_digest_11) hf (fun r2 h c hf => ?_)
  refine sj_iast hf dX1_digest_14 (fun h hf => ?_)
  refine sj_dup dX1_digest_15 rfl ?_
  refine sj_iconst (v := 1) dX1_digest_16 (by decide) ?_
  refine sj_aload_n 1 dX1_digest_17 rfl ?_
  obtain ⟨fs18, he18, hf⟩ := sd_isC_some hf
  refine sj_cI (rest := [.int 1, .ref o1, .ref o1]) (fun _ _ _ e => sj_runV (n := 0) (As := []) (rest := [.int 1, .ref o1, .ref o1]) (sX1_strata l G a0 h _ _ _ e) he18 rfl rfl rfl rfl q2283 q2097 q2098 q116 q2099 (by decide +kernel) rfl rfl ⟨Nat.le_of_ble_eq_true rfl, Nat.le_of_ble_eq_true rfl⟩ rfl (Nat.le_of_ble_eq_true rfl) dX1_digest_18) hf (fun r3 h c hf => ?_)
  refine sj_iast hf dX1_digest_21 (fun h hf => ?_)
  refine sj_dup dX1_digest_22 rfl ?_
  refine sj_iconst (v := 2) dX1_digest_23 (by decide) ?_
  refine sj_aload_n 1 dX1_digest_24 rfl ?_
  obtain ⟨fs25, he25, hf⟩ := sd_isC_some hf
  refine sj_cI (rest := [.int 2, .ref o1, .ref o1]) (fun _ _ _ e => sj_runV (n := 0) (As := []) (rest := [.int 2, .ref o1, .ref o1]) (sX1_finds l G a0 h _ _ _ e) he25 rfl rfl rfl rfl q2284 q2101 q2102 q116 q2103 (by decide +kernel) rfl rfl ⟨Nat.le_of_ble_eq_true rfl, Nat.le_of_ble_eq_true rfl⟩ rfl (Nat.le_of_ble_eq_true rfl) dX1_digest_25) hf (fun r4 h c hf => ?_)
  refine sj_iast hf dX1_digest_28 (fun h hf => ?_)
  refine sj_dup dX1_digest_29 rfl ?_
  refine sj_iconst (v := 3) dX1_digest_30 (by decide) ?_
  refine sj_aload_n 1 dX1_digest_31 rfl ?_
  obtain ⟨fs32, he32, hf⟩ := sd_isC_some hf
  refine sj_cI (rest := [.int 3, .ref o1, .ref o1]) (fun _ _ _ e => sj_runV (n := 0) (As := []) (rest := [.int 3, .ref o1, .ref o1]) (sX1_days l G a0 h _ _ _ e) he32 rfl rfl rfl rfl q2285 q2106 q2107 q116 q2108 (by decide +kernel) rfl rfl ⟨Nat.le_of_ble_eq_true rfl, Nat.le_of_ble_eq_true rfl⟩ rfl (Nat.le_of_ble_eq_true rfl) dX1_digest_32) hf (fun r5 h c hf => ?_)
  refine sj_iast hf dX1_digest_35 (fun h hf => ?_)
  refine sj_dup dX1_digest_36 rfl ?_
  refine sj_iconst (v := 4) dX1_digest_37 (by decide) ?_
  refine sj_aload_n 1 dX1_digest_38 rfl ?_
  obtain ⟨fs39, he39, hf⟩ := sd_isC_some hf
  refine sj_cI (rest := [.int 4, .ref o1, .ref o1]) (fun _ _ _ e => sj_runV (n := 0) (As := []) (rest := [.int 4, .ref o1, .ref o1]) (sX1_ordersCarriedOut l G a0 h _ _ _ e) he39 rfl rfl rfl rfl q2286 q2110 q2111 q116 q2112 (by decide +kernel) rfl rfl ⟨Nat.le_of_ble_eq_true rfl, Nat.le_of_ble_eq_true rfl⟩ rfl (Nat.le_of_ble_eq_true rfl) dX1_digest_39) hf (fun r6 h c hf => ?_)
  refine sj_iast hf dX1_digest_42 (fun h hf => ?_)
  refine sj_dup dX1_digest_43 rfl ?_
  refine sj_iconst (v := 5) dX1_digest_44 (by decide) ?_
  refine sj_aload_n 1 dX1_digest_45 rfl ?_
  obtain ⟨fs46, he46, hf⟩ := sd_isC_some hf
  refine sj_cI (rest := [.int 5, .ref o1, .ref o1]) (fun _ _ _ e => sj_runV (n := 0) (As := []) (rest := [.int 5, .ref o1, .ref o1]) (sX1_cushionsDug l G a0 h _ _ _ e) he46 rfl rfl rfl rfl q2287 q2114 q2115 q116 q2116 (by decide +kernel) rfl rfl ⟨Nat.le_of_ble_eq_true rfl, Nat.le_of_ble_eq_true rfl⟩ rfl (Nat.le_of_ble_eq_true rfl) dX1_digest_46) hf (fun r7 h c hf => ?_)
  refine sj_iast hf dX1_digest_49 (fun h hf => ?_)
  refine sj_dup dX1_digest_50 rfl ?_
  refine sj_bipush (v := 6) dX1_digest_51 (by decide) ?_
  refine sj_aload_n 1 dX1_digest_53 rfl ?_
  obtain ⟨fs54, he54, hf⟩ := sd_isC_some hf
  refine sj_cI (rest := [.int 6, .ref o1, .ref o1]) (fun _ _ _ e => sj_runV (n := 0) (As := []) (rest := [.int 6, .ref o1, .ref o1]) (sX1_slides l G a0 h _ _ _ e) he54 rfl rfl rfl rfl q2288 q2118 q2119 q116 q2120 (by decide +kernel) rfl rfl ⟨Nat.le_of_ble_eq_true rfl, Nat.le_of_ble_eq_true rfl⟩ rfl (Nat.le_of_ble_eq_true rfl) dX1_digest_54) hf (fun r8 h c hf => ?_)
  refine sj_iast hf dX1_digest_57 (fun h hf => ?_)
  refine sj_dup dX1_digest_58 rfl ?_
  refine sj_bipush (v := 7) dX1_digest_59 (by decide) ?_
  refine sj_aload_n 1 dX1_digest_61 rfl ?_
  obtain ⟨fs62, he62, hf⟩ := sd_isC_some hf
  refine sj_cI (rest := [.int 7, .ref o1, .ref o1]) (fun _ _ _ e => sj_runV (n := 0) (As := []) (rest := [.int 7, .ref o1, .ref o1]) (sX1_found l G a0 h _ _ _ e) he62 rfl rfl rfl rfl q2289 q2122 q2123 q116 q2124 (by decide +kernel) rfl rfl ⟨Nat.le_of_ble_eq_true rfl, Nat.le_of_ble_eq_true rfl⟩ rfl (Nat.le_of_ble_eq_true rfl) dX1_digest_62) hf (fun r9 h c hf => ?_)
  refine sj_iast hf dX1_digest_65 (fun h hf => ?_)
  refine sj_dup dX1_digest_66 rfl ?_
  refine sj_bipush (v := 8) dX1_digest_67 (by decide) ?_
  refine sj_aload_n 1 dX1_digest_69 rfl ?_
  obtain ⟨fs70, he70, hf⟩ := sd_isC_some hf
  refine sj_cI (rest := [.int 8, .ref o1, .ref o1]) (fun _ _ _ e => sj_runV (n := 0) (As := []) (rest := [.int 8, .ref o1, .ref o1]) (sX1_sureFinds l G a0 h _ _ _ e) he70 rfl rfl rfl rfl q2290 q2131 q2132 q116 q2133 (by decide +kernel) rfl rfl ⟨Nat.le_of_ble_eq_true rfl, Nat.le_of_ble_eq_true rfl⟩ rfl (Nat.le_of_ble_eq_true rfl) dX1_digest_70) hf (fun r10 h c hf => ?_)
  refine sj_iast hf dX1_digest_73 (fun h hf => ?_)
  refine sj_dup dX1_digest_74 rfl ?_
  refine sj_bipush (v := 9) dX1_digest_75 (by decide) ?_
  refine sj_aload_n 1 dX1_digest_77 rfl ?_
  obtain ⟨fs78, he78, hf⟩ := sd_isC_some hf
  refine sj_cI (rest := [.int 9, .ref o1, .ref o1]) (fun _ _ _ e => sj_runV (n := 0) (As := []) (rest := [.int 9, .ref o1, .ref o1]) (sX1_bestDig l G a0 h _ _ _ e) he78 rfl rfl rfl rfl q2291 q2151 q2152 q116 q2153 (by decide +kernel) rfl rfl ⟨Nat.le_of_ble_eq_true rfl, Nat.le_of_ble_eq_true rfl⟩ rfl (Nat.le_of_ble_eq_true rfl) dX1_digest_78) hf (fun r11 h c hf => ?_)
  refine sj_iast hf dX1_digest_81 (fun h hf => ?_)
  refine sj_astore_n [(3, .ref o1), (1, .long 1021), (0, .ref a0)] dX1_digest_82 (by decide) rfl ?_
  refine sj_aload_n 0 dX1_digest_83 rfl ?_
  refine sj_astore [(4, .ref o1), (3, .ref o1), (1, .long 1021), (0, .ref a0)] dX1_digest_84 (by decide) rfl ?_
  refine sj_aload 0 dX1_digest_86 rfl ?_
  refine sj_alen hf dX1_digest_88 (fun v12 hf => ?_)
  refine sj_istore [(5, .int v12), (4, .ref o1), (3, .ref o1), (1, .long 1021), (0, .ref a0)] dX1_digest_89 (by decide) rfl ?_
  refine sj_iconst (v := 0) dX1_digest_91 (by decide) ?_
  refine sj_istore [(6, .int 0), (5, .int v12), (4, .ref o1), (3, .ref o1), (1, .long 1021), (0, .ref a0)] dX1_digest_92 (by decide) rfl ?_
  exact sj_loc [5, 4, 2, 1, 0] rfl (sX1_digest_b94_loop l G a0 ρ h2 cT sd_FU (a0, 1021, o1, v12, 0) _ _ hf)
/-! SofaDig.requireState(Z)V -/
abbrev cX1_requireState : ByteArray := prog_1_method_2_code
def yX1_requireState : MethodName := ⟨RX1, "requireState", "(Z)V"⟩
def dkwX1_requireState_0 : List UInt8 := [26, 154, 0, 11, 187, 0, 7, 89, 183, 0, 9, 191, 177]
abbrev dktX1_requireState_0 : List UInt8 := dkwX1_requireState_0 ++ []
theorem dksX1_requireState_0 : cX1_requireState.data.toList.drop 0 = dktX1_requireState_0 := by decide +kernel
theorem dX1_requireState_0 : decode cX1_requireState 0 = .ok (.iload_n 0, 1) := dk_26 (dk_at dksX1_requireState_0 0 rfl rfl)
theorem dX1_requireState_1 : decode cX1_requireState 1 = .ok (.ifCond .ne 11, 3) := dk_154 0 11 (dk_at dksX1_requireState_0 1 rfl rfl)
theorem dX1_requireState_4 : decode cX1_requireState 4 = .ok (.new 7, 3) := dk_187 0 7 (dk_at dksX1_requireState_0 4 rfl rfl)
theorem dX1_requireState_7 : decode cX1_requireState 7 = .ok (.dup, 1) := dk_89 (dk_at dksX1_requireState_0 7 rfl rfl)
theorem dX1_requireState_8 : decode cX1_requireState 8 = .ok (.invokespecial 9, 3) := dk_183 0 9 (dk_at dksX1_requireState_0 8 rfl rfl)
theorem dX1_requireState_11 : decode cX1_requireState 11 = .ok (.athrow, 1) := dk_191 (dk_at dksX1_requireState_0 11 rfl rfl)
theorem dX1_requireState_12 : decode cX1_requireState 12 = .ok (.return_, 1) := dk_177 (dk_at dksX1_requireState_0 12 rfl rfl)
theorem tw48_9 : vy_at0 "SofaDig" 9 "java/lang/IllegalStateException" ["java/lang/RuntimeException", "java/lang/Exception"] = ([129, 697, 706, 712, 715, 717, 698, 699, 188, 189, 700, 705, 713, 808, 687, 809, 689, 810, 691, 701, 703, 693, 2333, 2334, 2335, 2336, 678, 2336, 2337, 2338, 1047, 680, 1047, 1048, 1049, 698, 682, 2332, 2324, 2325, 2326, 710, 2327, 2328, 2329, 2330, 696, 695, 2331] : List Nat).filterMap (fun i => lw_tbl[i]?) := by decide +kernel
theorem tw48_9g : (vy_at0 "SofaDig" 9 "java/lang/IllegalStateException" ["java/lang/RuntimeException", "java/lang/Exception"]).all sd_gk = true := by decide +kernel
abbrev mX1_requireState : sd_Y := (yX1_requireState, cX1_requireState, 1, none, none)
def fX1_requireState (G : sd_G) (a1 : Int32) : sd_M (Unit ⊕ Nat) :=
  if a1 = 0 then (
    sd_bnd (sd_new 48 6 []) fun e4 => sd_ret (.inr e4))
  else (
    sd_ret (.inl ()))
set_option maxHeartbeats 4000000 in
theorem sX1_requireState (l : Launch) (hl : l.stackTraces = false) (G : sd_G) (a1 : Int32) (h : sd_H) (ρ : Unit ⊕ Nat) (cT : Nat × Nat) (h2 : sd_H) (hf : fX1_requireState G a1 h = some (ρ, cT, h2)) : sd_Met mX1_requireState ((l, G), (6, 81), [.int a1], ((sd_ox sd_oV) ρ, h2), cT) h := by
  refine sd_entry (plainFor_of_name rfl) rfl (Nat.le_of_ble_eq_true rfl) ?_
  show sd_J mX1_requireState ((l, G), (6, 81), [.int a1], ((sd_ox sd_oV) ρ, h2), cT) 0 [(0, .int a1)] [] h cT
  unfold fX1_requireState at hf
  refine sj_iload_n 0 dX1_requireState_0 rfl ?_
  refine sj_ifne 12 hf dX1_requireState_1 (by decide) (fun g1 hf => ?_) (fun g1 hf => ?_)
  · exact sj_vret (o := (sd_ox sd_oV)) hf rfl rfl rfl dX1_requireState_12
  · exact sj_throw0 (o := sd_oV) ["java/lang/RuntimeException", "java/lang/Exception"] [129, 697, 706, 712, 715, 717, 698, 699, 188, 189, 700, 705, 713, 808, 687, 809, 689, 810, 691, 701, 703, 693, 2333, 2334, 2335, 2336, 678, 2336, 2337, 2338, 1047, 680, 1047, 1048, 1049, 698, 682, 2332, 2324, 2325, 2326, 710, 2327, 2328, 2329, 2330, 696, 695, 2331] hl rfl rfl rfl (by decide) (by decide +kernel) (by decide +kernel) tw48_9 tw48_9g q2323 q132 (show 6 ≤ _ from Nat.le_of_ble_eq_true rfl) (Nat.le_of_ble_eq_true rfl) dX1_requireState_4 dX1_requireState_7 dX1_requireState_8 dX1_requireState_11 hf
/-! SofaDig.feed(IIIII)I -/
abbrev cX1_feed : ByteArray := prog_1_method_7_code
def yX1_feed : MethodName := ⟨RX1, "feed", "(IIIII)I"⟩
def dkwX1_feed_3 : List UInt8 := [180, 0, 61, 172]
abbrev dktX1_feed_3 : List UInt8 := dkwX1_feed_3 ++ []
def dkwX1_feed_2 : List UInt8 := [42, 180, 0, 39, 21, 4, 182, 0, 66, 42, 180, 0, 39, 21, 5, 182, 0, 66, 42, 180, 0, 39]
abbrev dktX1_feed_2 : List UInt8 := dkwX1_feed_2 ++ dktX1_feed_3
def dkwX1_feed_1 : List UInt8 := [42, 180, 0, 39, 27, 182, 0, 66, 42, 180, 0, 39, 28, 182, 0, 66, 42, 180, 0, 39, 29, 182, 0, 66]
abbrev dktX1_feed_1 : List UInt8 := dkwX1_feed_1 ++ dktX1_feed_2
def dkwX1_feed_0 : List UInt8 := [42, 180, 0, 39, 180, 0, 61, 16, 20, 96, 17, 7, 208, 163, 0, 7, 4, 167, 0, 4, 3, 184, 0, 63]
abbrev dktX1_feed_0 : List UInt8 := dkwX1_feed_0 ++ dktX1_feed_1
theorem dksX1_feed_0 : cX1_feed.data.toList.drop 0 = dktX1_feed_0 := by decide +kernel
theorem dksX1_feed_1 : cX1_feed.data.toList.drop 24 = dktX1_feed_1 := dk_seg dksX1_feed_0 24 rfl rfl
theorem dksX1_feed_2 : cX1_feed.data.toList.drop 48 = dktX1_feed_2 := dk_seg dksX1_feed_1 24 rfl rfl
theorem dksX1_feed_3 : cX1_feed.data.toList.drop 70 = dktX1_feed_3 := dk_seg dksX1_feed_2 22 rfl rfl
theorem dX1_feed_0 : decode cX1_feed 0 = .ok (.aload_n 0, 1) := dk_42 (dk_at dksX1_feed_0 0 rfl rfl)
theorem dX1_feed_1 : decode cX1_feed 1 = .ok (.getfield 39, 3) := dk_180 0 39 (dk_at dksX1_feed_0 1 rfl rfl)
theorem dX1_feed_4 : decode cX1_feed 4 = .ok (.getfield 61, 3) := dk_180 0 61 (dk_at dksX1_feed_0 4 rfl rfl)
theorem dX1_feed_7 : decode cX1_feed 7 = .ok (.bipush 20, 2) := dk_16 20 (dk_at dksX1_feed_0 7 rfl rfl)
theorem dX1_feed_9 : decode cX1_feed 9 = .ok (.iadd, 1) := dk_96 (dk_at dksX1_feed_0 9 rfl rfl)
theorem dX1_feed_10 : decode cX1_feed 10 = .ok (.sipush 2000, 3) := dk_17 7 208 (dk_at dksX1_feed_0 10 rfl rfl)
theorem dX1_feed_13 : decode cX1_feed 13 = .ok (.if_icmp .gt 7, 3) := dk_163 0 7 (dk_at dksX1_feed_0 13 rfl rfl)
theorem dX1_feed_16 : decode cX1_feed 16 = .ok (.iconst 1, 1) := dk_4 (dk_at dksX1_feed_0 16 rfl rfl)
theorem dX1_feed_17 : decode cX1_feed 17 = .ok (.goto 4, 3) := dk_167 0 4 (dk_at dksX1_feed_0 17 rfl rfl)
theorem dX1_feed_20 : decode cX1_feed 20 = .ok (.iconst 0, 1) := dk_3 (dk_at dksX1_feed_0 20 rfl rfl)
theorem dX1_feed_21 : decode cX1_feed 21 = .ok (.invokestatic 63, 3) := dk_184 0 63 (dk_at dksX1_feed_0 21 rfl rfl)
theorem dX1_feed_24 : decode cX1_feed 24 = .ok (.aload_n 0, 1) := dk_42 (dk_at dksX1_feed_1 0 rfl rfl)
theorem dX1_feed_25 : decode cX1_feed 25 = .ok (.getfield 39, 3) := dk_180 0 39 (dk_at dksX1_feed_1 1 rfl rfl)
theorem dX1_feed_28 : decode cX1_feed 28 = .ok (.iload_n 1, 1) := dk_27 (dk_at dksX1_feed_1 4 rfl rfl)
theorem dX1_feed_29 : decode cX1_feed 29 = .ok (.invokevirtual 66, 3) := dk_182 0 66 (dk_at dksX1_feed_1 5 rfl rfl)
theorem dX1_feed_32 : decode cX1_feed 32 = .ok (.aload_n 0, 1) := dk_42 (dk_at dksX1_feed_1 8 rfl rfl)
theorem dX1_feed_33 : decode cX1_feed 33 = .ok (.getfield 39, 3) := dk_180 0 39 (dk_at dksX1_feed_1 9 rfl rfl)
theorem dX1_feed_36 : decode cX1_feed 36 = .ok (.iload_n 2, 1) := dk_28 (dk_at dksX1_feed_1 12 rfl rfl)
theorem dX1_feed_37 : decode cX1_feed 37 = .ok (.invokevirtual 66, 3) := dk_182 0 66 (dk_at dksX1_feed_1 13 rfl rfl)
theorem dX1_feed_40 : decode cX1_feed 40 = .ok (.aload_n 0, 1) := dk_42 (dk_at dksX1_feed_1 16 rfl rfl)
theorem dX1_feed_41 : decode cX1_feed 41 = .ok (.getfield 39, 3) := dk_180 0 39 (dk_at dksX1_feed_1 17 rfl rfl)
theorem dX1_feed_44 : decode cX1_feed 44 = .ok (.iload_n 3, 1) := dk_29 (dk_at dksX1_feed_1 20 rfl rfl)
theorem dX1_feed_45 : decode cX1_feed 45 = .ok (.invokevirtual 66, 3) := dk_182 0 66 (dk_at dksX1_feed_1 21 rfl rfl)
theorem dX1_feed_48 : decode cX1_feed 48 = .ok (.aload_n 0, 1) := dk_42 (dk_at dksX1_feed_2 0 rfl rfl)
theorem dX1_feed_49 : decode cX1_feed 49 = .ok (.getfield 39, 3) := dk_180 0 39 (dk_at dksX1_feed_2 1 rfl rfl)
theorem dX1_feed_52 : decode cX1_feed 52 = .ok (.iload 4, 2) := dk_21 4 (dk_at dksX1_feed_2 4 rfl rfl)
theorem dX1_feed_54 : decode cX1_feed 54 = .ok (.invokevirtual 66, 3) := dk_182 0 66 (dk_at dksX1_feed_2 6 rfl rfl)
theorem dX1_feed_57 : decode cX1_feed 57 = .ok (.aload_n 0, 1) := dk_42 (dk_at dksX1_feed_2 9 rfl rfl)
theorem dX1_feed_58 : decode cX1_feed 58 = .ok (.getfield 39, 3) := dk_180 0 39 (dk_at dksX1_feed_2 10 rfl rfl)
theorem dX1_feed_61 : decode cX1_feed 61 = .ok (.iload 5, 2) := dk_21 5 (dk_at dksX1_feed_2 13 rfl rfl)
theorem dX1_feed_63 : decode cX1_feed 63 = .ok (.invokevirtual 66, 3) := dk_182 0 66 (dk_at dksX1_feed_2 15 rfl rfl)
theorem dX1_feed_66 : decode cX1_feed 66 = .ok (.aload_n 0, 1) := dk_42 (dk_at dksX1_feed_2 18 rfl rfl)
theorem dX1_feed_67 : decode cX1_feed 67 = .ok (.getfield 39, 3) := dk_180 0 39 (dk_at dksX1_feed_2 19 rfl rfl)
theorem dX1_feed_70 : decode cX1_feed 70 = .ok (.getfield 61, 3) := dk_180 0 61 (dk_at dksX1_feed_3 0 rfl rfl)
theorem dX1_feed_73 : decode cX1_feed 73 = .ok (.ireturn, 1) := dk_172 (dk_at dksX1_feed_3 3 rfl rfl)
theorem fdX1_61_1 : sd_Fd "SofaDig" 61 1 1 := ⟨(RX2, TX2, 2), "SofaDig$Tape", rfl, by decide, rfl, in_X2, Or.inl rfl, Or.inr ⟨_, q199⟩⟩
abbrev mX1_feed : sd_Y := (yX1_feed, cX1_feed, 6, some (.int), none)
def fX1_feed_b21 (G : sd_G) (w0 : Nat) (w1 : Int32) (w2 : Int32) (w3 : Int32) (w4 : Int32) (w5 : Int32) (y0 : Int32) : sd_M (Int32 ⊕ Nat) :=
  sd_bx (fX1_requireState G y0) (fun e21 =>
    sd_ret (.inr e21)) fun _ =>
  sd_bnd (sd_getR G 0 0 w0) fun v3 =>
  sd_bnd (sd_isC G 1 v3) fun _ =>
  sd_bnd (fX2_put G v3 w1) fun _ =>
  sd_bnd (sd_getR G 0 0 w0) fun v4 =>
  sd_bnd (sd_isC G 1 v4) fun _ =>
  sd_bnd (fX2_put G v4 w2) fun _ =>
  sd_bnd (sd_getR G 0 0 w0) fun v5 =>
  sd_bnd (sd_isC G 1 v5) fun _ =>
  sd_bnd (fX2_put G v5 w3) fun _ =>
  sd_bnd (sd_getR G 0 0 w0) fun v6 =>
  sd_bnd (sd_isC G 1 v6) fun _ =>
  sd_bnd (fX2_put G v6 w4) fun _ =>
  sd_bnd (sd_getR G 0 0 w0) fun v7 =>
  sd_bnd (sd_isC G 1 v7) fun _ =>
  sd_bnd (fX2_put G v7 w5) fun _ =>
  sd_bnd (sd_getR G 0 0 w0) fun v8 =>
  sd_bnd (sd_getI G 1 1 v8) fun v9 =>
  sd_ret (.inl v9)
set_option maxHeartbeats 4000000 in
theorem sX1_feed_b21 (l : Launch) (hl : l.stackTraces = false) (G : sd_G) (a0 : Nat) (a1 : Int32) (a2 : Int32) (a3 : Int32) (a4 : Int32) (a5 : Int32) (ρ : Int32 ⊕ Nat) (h2 : sd_H) (cT : Nat × Nat) (w0 : Nat) (w1 : Int32) (w2 : Int32) (w3 : Int32) (w4 : Int32) (w5 : Int32) (y0 : Int32) (h : sd_H) (c : Nat × Nat) (hf : fX1_feed_b21 G w0 w1 w2 w3 w4 w5 y0 h = some (ρ, c, h2)) : sd_J mX1_feed ((l, G), (7, 101), [.ref a0, .int a1, .int a2, .int a3, .int a4, .int a5], ((sd_ox sd_oI) ρ, h2), cT) 21 [(0, .ref w0), (1, .int w1), (2, .int w2), (3, .int w3), (4, .int w4), (5, .int w5)] [.int y0] h c := by
  unfold fX1_feed_b21 at hf
  refine sj_xV (rest := []) (fun _ _ _ e => sj_runS (n := 1) (rest := []) (sX1_requireState l hl G y0 h _ _ _ e) rfl rfl q2320 q2321 q116 q2322 (by decide +kernel) rfl ⟨Nat.le_of_ble_eq_true rfl, Nat.le_of_ble_eq_true rfl⟩ rfl (Nat.le_of_ble_eq_true rfl) dX1_feed_21) hf (fun e21 h c hf => ?_) (fun h c hf => ?_)
  · exact sj_outX hf rfl (by intro x hx; cases hx)
  refine sj_aload_n 0 dX1_feed_24 rfl ?_
  refine sj_getR fdX1_39_0 hf dX1_feed_25 (fun v3 hf => ?_)
  refine sj_iload_n 1 dX1_feed_28 rfl ?_
  obtain ⟨fs29, he29, hf⟩ := sd_isC_some hf
  refine sj_cV (rest := []) (fun _ _ _ e => sj_runV (n := 1) (As := [.int w1]) (rest := []) (sX2_put l G v3 w1 h _ _ _ e) he29 rfl rfl rfl rfl q2341 q2342 q2343 q117 q2344 (by decide +kernel) rfl rfl ⟨Nat.le_of_ble_eq_true rfl, Nat.le_of_ble_eq_true rfl⟩ rfl (Nat.le_of_ble_eq_true rfl) dX1_feed_29) hf (fun h c hf => ?_)
  refine sj_aload_n 0 dX1_feed_32 rfl ?_
  refine sj_getR fdX1_39_0 hf dX1_feed_33 (fun v4 hf => ?_)
  refine sj_iload_n 2 dX1_feed_36 rfl ?_
  obtain ⟨fs37, he37, hf⟩ := sd_isC_some hf
  refine sj_cV (rest := []) (fun _ _ _ e => sj_runV (n := 1) (As := [.int w2]) (rest := []) (sX2_put l G v4 w2 h _ _ _ e) he37 rfl rfl rfl rfl q2341 q2342 q2343 q117 q2344 (by decide +kernel) rfl rfl ⟨Nat.le_of_ble_eq_true rfl, Nat.le_of_ble_eq_true rfl⟩ rfl (Nat.le_of_ble_eq_true rfl) dX1_feed_37) hf (fun h c hf => ?_)
  refine sj_aload_n 0 dX1_feed_40 rfl ?_
  refine sj_getR fdX1_39_0 hf dX1_feed_41 (fun v5 hf => ?_)
  refine sj_iload_n 3 dX1_feed_44 rfl ?_
  obtain ⟨fs45, he45, hf⟩ := sd_isC_some hf
  refine sj_cV (rest := []) (fun _ _ _ e => sj_runV (n := 1) (As := [.int w3]) (rest := []) (sX2_put l G v5 w3 h _ _ _ e) he45 rfl rfl rfl rfl q2341 q2342 q2343 q117 q2344 (by decide +kernel) rfl rfl ⟨Nat.le_of_ble_eq_true rfl, Nat.le_of_ble_eq_true rfl⟩ rfl (Nat.le_of_ble_eq_true rfl) dX1_feed_45) hf (fun h c hf => ?_)
  refine sj_aload_n 0 dX1_feed_48 rfl ?_
  refine sj_getR fdX1_39_0 hf dX1_feed_49 (fun v6 hf => ?_)
  refine sj_iload 4 dX1_feed_52 rfl ?_
  obtain ⟨fs54, he54, hf⟩ := sd_isC_some hf
  refine sj_cV (rest := []) (fun _ _ _ e => sj_runV (n := 1) (As := [.int w4]) (rest := []) (sX2_put l G v6 w4 h _ _ _ e) he54 rfl rfl rfl rfl q2341 q2342 q2343 q117 q2344 (by decide +kernel) rfl rfl ⟨Nat.le_of_ble_eq_true rfl, Nat.le_of_ble_eq_true rfl⟩ rfl (Nat.le_of_ble_eq_true rfl) dX1_feed_54) hf (fun h c hf => ?_)
  refine sj_aload_n 0 dX1_feed_57 rfl ?_
  refine sj_getR fdX1_39_0 hf dX1_feed_58 (fun v7 hf => ?_)
  refine sj_iload 5 dX1_feed_61 rfl ?_
  obtain ⟨fs63, he63, hf⟩ := sd_isC_some hf
  refine sj_cV (rest := []) (fun _ _ _ e => sj_runV (n := 1) (As := [.int w5]) (rest := []) (sX2_put l G v7 w5 h _ _ _ e) he63 rfl rfl rfl rfl q2341 q2342 q2343 q117 q2344 (by decide +kernel) rfl rfl ⟨Nat.le_of_ble_eq_true rfl, Nat.le_of_ble_eq_true rfl⟩ rfl (Nat.le_of_ble_eq_true rfl) dX1_feed_63) hf (fun h c hf => ?_)
  refine sj_aload_n 0 dX1_feed_66 rfl ?_
  refine sj_getR fdX1_39_0 hf dX1_feed_67 (fun v8 hf => ?_)
  refine sj_getI fdX1_61_1 hf dX1_feed_70 (fun v9 hf => ?_)
  exact sj_iret (o := (sd_ox sd_oI)) hf rfl rfl rfl dX1_feed_73
def fX1_feed (G : sd_G) (a0 : Nat) (a1 : Int32) (a2 : Int32) (a3 : Int32) (a4 : Int32) (a5 : Int32) : sd_M (Int32 ⊕ Nat) :=
  sd_bnd (sd_getR G 0 0 a0) fun v1 =>
  sd_bnd (sd_getI G 1 1 v1) fun v2 =>
  if 2000 < (v2 + 20) then (
    fX1_feed_b21 G a0 a1 a2 a3 a4 a5 0)
  else (
    fX1_feed_b21 G a0 a1 a2 a3 a4 a5 1)
set_option maxHeartbeats 4000000 in
theorem sX1_feed (l : Launch) (hl : l.stackTraces = false) (G : sd_G) (a0 : Nat) (a1 : Int32) (a2 : Int32) (a3 : Int32) (a4 : Int32) (a5 : Int32) (h : sd_H) (ρ : Int32 ⊕ Nat) (cT : Nat × Nat) (h2 : sd_H) (hf : fX1_feed G a0 a1 a2 a3 a4 a5 h = some (ρ, cT, h2)) : sd_Met mX1_feed ((l, G), (7, 101), [.ref a0, .int a1, .int a2, .int a3, .int a4, .int a5], ((sd_ox sd_oI) ρ, h2), cT) h := by
  refine sd_entry (plainFor_of_name rfl) rfl (Nat.le_of_ble_eq_true rfl) ?_
  show sd_J mX1_feed ((l, G), (7, 101), [.ref a0, .int a1, .int a2, .int a3, .int a4, .int a5], ((sd_ox sd_oI) ρ, h2), cT) 0 [(0, .ref a0), (1, .int a1), (2, .int a2), (3, .int a3), (4, .int a4), (5, .int a5)] [] h cT
  unfold fX1_feed at hf
  refine sj_aload_n 0 dX1_feed_0 rfl ?_
  refine sj_getR fdX1_39_0 hf dX1_feed_1 (fun v1 hf => ?_)
  refine sj_getI fdX1_61_1 hf dX1_feed_4 (fun v2 hf => ?_)
  refine sj_bipush (v := 20) dX1_feed_7 (by decide) ?_
  refine sj_iadd dX1_feed_9 ?_
  refine sj_sipush (v := 2000) dX1_feed_10 (by decide) ?_
  refine sj_icgt 20 hf dX1_feed_13 (by decide) (fun g13 hf => ?_) (fun g13 hf => ?_)
  · refine sj_iconst (v := 0) dX1_feed_20 (by decide) ?_
    exact sj_loc [0, 1, 2, 3, 4, 5] rfl (sX1_feed_b21 l hl G a0 a1 a2 a3 a4 a5 ρ h2 cT a0 a1 a2 a3 a4 a5 0 _ _ hf)
  · refine sj_iconst (v := 1) dX1_feed_16 (by decide) ?_
    refine sj_goto 21 dX1_feed_17 (by decide) ?_
    exact sj_loc [0, 1, 2, 3, 4, 5] rfl (sX1_feed_b21 l hl G a0 a1 a2 a3 a4 a5 ρ h2 cT a0 a1 a2 a3 a4 a5 1 _ _ hf)
/-! SofaDig.require(Z)V -/
abbrev cX1_require : ByteArray := prog_1_method_1_code
def yX1_require : MethodName := ⟨RX1, "require", "(Z)V"⟩
def dkwX1_require_0 : List UInt8 := [26, 154, 0, 11, 187, 0, 1, 89, 183, 0, 3, 191, 177]
abbrev dktX1_require_0 : List UInt8 := dkwX1_require_0 ++ []
theorem dksX1_require_0 : cX1_require.data.toList.drop 0 = dktX1_require_0 := by decide +kernel
theorem dX1_require_0 : decode cX1_require 0 = .ok (.iload_n 0, 1) := dk_26 (dk_at dksX1_require_0 0 rfl rfl)
theorem dX1_require_1 : decode cX1_require 1 = .ok (.ifCond .ne 11, 3) := dk_154 0 11 (dk_at dksX1_require_0 1 rfl rfl)
theorem dX1_require_4 : decode cX1_require 4 = .ok (.new 1, 3) := dk_187 0 1 (dk_at dksX1_require_0 4 rfl rfl)
theorem dX1_require_7 : decode cX1_require 7 = .ok (.dup, 1) := dk_89 (dk_at dksX1_require_0 7 rfl rfl)
theorem dX1_require_8 : decode cX1_require 8 = .ok (.invokespecial 3, 3) := dk_183 0 3 (dk_at dksX1_require_0 8 rfl rfl)
theorem dX1_require_11 : decode cX1_require 11 = .ok (.athrow, 1) := dk_191 (dk_at dksX1_require_0 11 rfl rfl)
theorem dX1_require_12 : decode cX1_require 12 = .ok (.return_, 1) := dk_177 (dk_at dksX1_require_0 12 rfl rfl)
theorem tw49_3 : vy_at0 "SofaDig" 3 "java/lang/IllegalArgumentException" ["java/lang/RuntimeException", "java/lang/Exception"] = ([129, 697, 706, 712, 715, 717, 698, 699, 188, 189, 700, 705, 713, 808, 687, 809, 689, 810, 691, 701, 703, 693, 2361, 2362, 2363, 2336, 678, 2336, 2337, 2338, 1047, 680, 1047, 1048, 1049, 698, 682, 2360, 676, 677, 684, 685, 686, 688, 690, 692, 696, 695, 694] : List Nat).filterMap (fun i => lw_tbl[i]?) := by decide +kernel
theorem tw49_3g : (vy_at0 "SofaDig" 3 "java/lang/IllegalArgumentException" ["java/lang/RuntimeException", "java/lang/Exception"]).all sd_gk = true := by decide +kernel
abbrev mX1_require : sd_Y := (yX1_require, cX1_require, 1, none, none)
def fX1_require (G : sd_G) (a1 : Int32) : sd_M (Unit ⊕ Nat) :=
  if a1 = 0 then (
    sd_bnd (sd_new 49 6 []) fun e4 => sd_ret (.inr e4))
  else (
    sd_ret (.inl ()))
set_option maxHeartbeats 4000000 in
theorem sX1_require (l : Launch) (hl : l.stackTraces = false) (G : sd_G) (a1 : Int32) (h : sd_H) (ρ : Unit ⊕ Nat) (cT : Nat × Nat) (h2 : sd_H) (hf : fX1_require G a1 h = some (ρ, cT, h2)) : sd_Met mX1_require ((l, G), (6, 81), [.int a1], ((sd_ox sd_oV) ρ, h2), cT) h := by
  refine sd_entry (plainFor_of_name rfl) rfl (Nat.le_of_ble_eq_true rfl) ?_
  show sd_J mX1_require ((l, G), (6, 81), [.int a1], ((sd_ox sd_oV) ρ, h2), cT) 0 [(0, .int a1)] [] h cT
  unfold fX1_require at hf
  refine sj_iload_n 0 dX1_require_0 rfl ?_
  refine sj_ifne 12 hf dX1_require_1 (by decide) (fun g1 hf => ?_) (fun g1 hf => ?_)
  · exact sj_vret (o := (sd_ox sd_oV)) hf rfl rfl rfl dX1_require_12
  · exact sj_throw0 (o := sd_oV) ["java/lang/RuntimeException", "java/lang/Exception"] [129, 697, 706, 712, 715, 717, 698, 699, 188, 189, 700, 705, 713, 808, 687, 809, 689, 810, 691, 701, 703, 693, 2361, 2362, 2363, 2336, 678, 2336, 2337, 2338, 1047, 680, 1047, 1048, 1049, 698, 682, 2360, 676, 677, 684, 685, 686, 688, 690, 692, 696, 695, 694] hl rfl rfl rfl (by decide) (by decide +kernel) (by decide +kernel) tw49_3 tw49_3g q2359 q133 (show 6 ≤ _ from Nat.le_of_ble_eq_true rfl) (Nat.le_of_ble_eq_true rfl) dX1_require_4 dX1_require_7 dX1_require_8 dX1_require_11 hf
/-! SofaDig.requireFrom(III)V -/
abbrev cX1_requireFrom : ByteArray := prog_1_method_4_code
def yX1_requireFrom : MethodName := ⟨RX1, "requireFrom", "(III)V"⟩
def dkwX1_requireFrom_0 : List UInt8 := [28, 26, 161, 0, 12, 28, 27, 163, 0, 7, 4, 167, 0, 4, 3, 184, 0, 13, 177]
abbrev dktX1_requireFrom_0 : List UInt8 := dkwX1_requireFrom_0 ++ []
theorem dksX1_requireFrom_0 : cX1_requireFrom.data.toList.drop 0 = dktX1_requireFrom_0 := by decide +kernel
theorem dX1_requireFrom_0 : decode cX1_requireFrom 0 = .ok (.iload_n 2, 1) := dk_28 (dk_at dksX1_requireFrom_0 0 rfl rfl)
theorem dX1_requireFrom_1 : decode cX1_requireFrom 1 = .ok (.iload_n 0, 1) := dk_26 (dk_at dksX1_requireFrom_0 1 rfl rfl)
theorem dX1_requireFrom_2 : decode cX1_requireFrom 2 = .ok (.if_icmp .lt 12, 3) := dk_161 0 12 (dk_at dksX1_requireFrom_0 2 rfl rfl)
theorem dX1_requireFrom_5 : decode cX1_requireFrom 5 = .ok (.iload_n 2, 1) := dk_28 (dk_at dksX1_requireFrom_0 5 rfl rfl)
theorem dX1_requireFrom_6 : decode cX1_requireFrom 6 = .ok (.iload_n 1, 1) := dk_27 (dk_at dksX1_requireFrom_0 6 rfl rfl)
theorem dX1_requireFrom_7 : decode cX1_requireFrom 7 = .ok (.if_icmp .gt 7, 3) := dk_163 0 7 (dk_at dksX1_requireFrom_0 7 rfl rfl)
theorem dX1_requireFrom_10 : decode cX1_requireFrom 10 = .ok (.iconst 1, 1) := dk_4 (dk_at dksX1_requireFrom_0 10 rfl rfl)
theorem dX1_requireFrom_11 : decode cX1_requireFrom 11 = .ok (.goto 4, 3) := dk_167 0 4 (dk_at dksX1_requireFrom_0 11 rfl rfl)
theorem dX1_requireFrom_14 : decode cX1_requireFrom 14 = .ok (.iconst 0, 1) := dk_3 (dk_at dksX1_requireFrom_0 14 rfl rfl)
theorem dX1_requireFrom_15 : decode cX1_requireFrom 15 = .ok (.invokestatic 13, 3) := dk_184 0 13 (dk_at dksX1_requireFrom_0 15 rfl rfl)
theorem dX1_requireFrom_18 : decode cX1_requireFrom 18 = .ok (.return_, 1) := dk_177 (dk_at dksX1_requireFrom_0 18 rfl rfl)
abbrev mX1_requireFrom : sd_Y := (yX1_requireFrom, cX1_requireFrom, 3, none, none)
def fX1_requireFrom (G : sd_G) (a1 : Int32) (a2 : Int32) (a3 : Int32) : sd_M (Unit ⊕ Nat) :=
  if a3 < a1 then (
    sd_bx (fX1_require G 0) (fun e15 =>
      sd_ret (.inr e15)) fun _ =>
    sd_ret (.inl ()))
  else (
    if a2 < a3 then (
      sd_bx (fX1_require G 0) (fun e15 =>
        sd_ret (.inr e15)) fun _ =>
      sd_ret (.inl ()))
    else (
      sd_bx (fX1_require G 1) (fun e15 =>
        sd_ret (.inr e15)) fun _ =>
      sd_ret (.inl ())))
set_option maxHeartbeats 4000000 in
theorem sX1_requireFrom (l : Launch) (hl : l.stackTraces = false) (G : sd_G) (a1 : Int32) (a2 : Int32) (a3 : Int32) (h : sd_H) (ρ : Unit ⊕ Nat) (cT : Nat × Nat) (h2 : sd_H) (hf : fX1_requireFrom G a1 a2 a3 h = some (ρ, cT, h2)) : sd_Met mX1_requireFrom ((l, G), (7, 101), [.int a1, .int a2, .int a3], ((sd_ox sd_oV) ρ, h2), cT) h := by
  refine sd_entry (plainFor_of_name rfl) rfl (Nat.le_of_ble_eq_true rfl) ?_
  show sd_J mX1_requireFrom ((l, G), (7, 101), [.int a1, .int a2, .int a3], ((sd_ox sd_oV) ρ, h2), cT) 0 [(0, .int a1), (1, .int a2), (2, .int a3)] [] h cT
  unfold fX1_requireFrom at hf
  refine sj_iload_n 2 dX1_requireFrom_0 rfl ?_
  refine sj_iload_n 0 dX1_requireFrom_1 rfl ?_
  refine sj_iclt 14 hf dX1_requireFrom_2 (by decide) (fun g2 hf => ?_) (fun g2 hf => ?_)
  · refine sj_iconst (v := 0) dX1_requireFrom_14 (by decide) ?_
    refine sj_xV (rest := []) (fun _ _ _ e => sj_runS (n := 1) (rest := []) (sX1_require l hl G 0 h _ _ _ e) rfl rfl q2356 q2357 q116 q2358 (by decide +kernel) rfl ⟨Nat.le_of_ble_eq_true rfl, Nat.le_of_ble_eq_true rfl⟩ rfl (Nat.le_of_ble_eq_true rfl) dX1_requireFrom_15) hf (fun e15 h c hf => ?_) (fun h c hf => ?_)
    · exact sj_outX hf rfl (by intro x hx; cases hx)
    exact sj_vret (o := (sd_ox sd_oV)) hf rfl rfl rfl dX1_requireFrom_18
  · refine sj_iload_n 2 dX1_requireFrom_5 rfl ?_
    refine sj_iload_n 1 dX1_requireFrom_6 rfl ?_
    refine sj_icgt 14 hf dX1_requireFrom_7 (by decide) (fun g7 hf => ?_) (fun g7 hf => ?_)
    · refine sj_iconst (v := 0) dX1_requireFrom_14 (by decide) ?_
      refine sj_xV (rest := []) (fun _ _ _ e => sj_runS (n := 1) (rest := []) (sX1_require l hl G 0 h _ _ _ e) rfl rfl q2356 q2357 q116 q2358 (by decide +kernel) rfl ⟨Nat.le_of_ble_eq_true rfl, Nat.le_of_ble_eq_true rfl⟩ rfl (Nat.le_of_ble_eq_true rfl) dX1_requireFrom_15) hf (fun e15 h c hf => ?_) (fun h c hf => ?_)
      · exact sj_outX hf rfl (by intro x hx; cases hx)
      exact sj_vret (o := (sd_ox sd_oV)) hf rfl rfl rfl dX1_requireFrom_18
    · refine sj_iconst (v := 1) dX1_requireFrom_10 (by decide) ?_
      refine sj_goto 15 dX1_requireFrom_11 (by decide) ?_
      refine sj_xV (rest := []) (fun _ _ _ e => sj_runS (n := 1) (rest := []) (sX1_require l hl G 1 h _ _ _ e) rfl rfl q2356 q2357 q116 q2358 (by decide +kernel) rfl ⟨Nat.le_of_ble_eq_true rfl, Nat.le_of_ble_eq_true rfl⟩ rfl (Nat.le_of_ble_eq_true rfl) dX1_requireFrom_15) hf (fun e15 h c hf => ?_) (fun h c hf => ?_)
      · exact sj_outX hf rfl (by intro x hx; cases hx)
      exact sj_vret (o := (sd_ox sd_oV)) hf rfl rfl rfl dX1_requireFrom_18
/-! SofaDig.trim(I)I -/
abbrev cX1_trim : ByteArray := prog_1_method_8_code
def yX1_trim : MethodName := ⟨RX1, "trim", "(I)I"⟩
def dkwX1_trim_0 : List UInt8 := [3, 42, 180, 0, 39, 180, 0, 61, 27, 184, 0, 70, 42, 180, 0, 39, 27, 181, 0, 61, 27, 172]
abbrev dktX1_trim_0 : List UInt8 := dkwX1_trim_0 ++ []
theorem dksX1_trim_0 : cX1_trim.data.toList.drop 0 = dktX1_trim_0 := by decide +kernel
theorem dX1_trim_0 : decode cX1_trim 0 = .ok (.iconst 0, 1) := dk_3 (dk_at dksX1_trim_0 0 rfl rfl)
theorem dX1_trim_1 : decode cX1_trim 1 = .ok (.aload_n 0, 1) := dk_42 (dk_at dksX1_trim_0 1 rfl rfl)
theorem dX1_trim_2 : decode cX1_trim 2 = .ok (.getfield 39, 3) := dk_180 0 39 (dk_at dksX1_trim_0 2 rfl rfl)
theorem dX1_trim_5 : decode cX1_trim 5 = .ok (.getfield 61, 3) := dk_180 0 61 (dk_at dksX1_trim_0 5 rfl rfl)
theorem dX1_trim_8 : decode cX1_trim 8 = .ok (.iload_n 1, 1) := dk_27 (dk_at dksX1_trim_0 8 rfl rfl)
theorem dX1_trim_9 : decode cX1_trim 9 = .ok (.invokestatic 70, 3) := dk_184 0 70 (dk_at dksX1_trim_0 9 rfl rfl)
theorem dX1_trim_12 : decode cX1_trim 12 = .ok (.aload_n 0, 1) := dk_42 (dk_at dksX1_trim_0 12 rfl rfl)
theorem dX1_trim_13 : decode cX1_trim 13 = .ok (.getfield 39, 3) := dk_180 0 39 (dk_at dksX1_trim_0 13 rfl rfl)
theorem dX1_trim_16 : decode cX1_trim 16 = .ok (.iload_n 1, 1) := dk_27 (dk_at dksX1_trim_0 16 rfl rfl)
theorem dX1_trim_17 : decode cX1_trim 17 = .ok (.putfield 61, 3) := dk_181 0 61 (dk_at dksX1_trim_0 17 rfl rfl)
theorem dX1_trim_20 : decode cX1_trim 20 = .ok (.iload_n 1, 1) := dk_27 (dk_at dksX1_trim_0 20 rfl rfl)
theorem dX1_trim_21 : decode cX1_trim 21 = .ok (.ireturn, 1) := dk_172 (dk_at dksX1_trim_0 21 rfl rfl)
abbrev mX1_trim : sd_Y := (yX1_trim, cX1_trim, 2, some (.int), none)
def fX1_trim (G : sd_G) (a0 : Nat) (a1 : Int32) : sd_M (Int32 ⊕ Nat) :=
  sd_bnd (sd_getR G 0 0 a0) fun v1 =>
  sd_bnd (sd_getI G 1 1 v1) fun v2 =>
  sd_bx (fX1_requireFrom G 0 v2 a1) (fun e9 =>
    sd_ret (.inr e9)) fun _ =>
  sd_bnd (sd_getR G 0 0 a0) fun v3 =>
  sd_bnd (sd_put 1 1 .int v3 (.int a1)) fun _ =>
  sd_ret (.inl a1)
set_option maxHeartbeats 4000000 in
theorem sX1_trim (l : Launch) (hl : l.stackTraces = false) (G : sd_G) (a0 : Nat) (a1 : Int32) (h : sd_H) (ρ : Int32 ⊕ Nat) (cT : Nat × Nat) (h2 : sd_H) (hf : fX1_trim G a0 a1 h = some (ρ, cT, h2)) : sd_Met mX1_trim ((l, G), (8, 123), [.ref a0, .int a1], ((sd_ox sd_oI) ρ, h2), cT) h := by
  refine sd_entry (plainFor_of_name rfl) rfl (Nat.le_of_ble_eq_true rfl) ?_
  show sd_J mX1_trim ((l, G), (8, 123), [.ref a0, .int a1], ((sd_ox sd_oI) ρ, h2), cT) 0 [(0, .ref a0), (1, .int a1)] [] h cT
  unfold fX1_trim at hf
  refine sj_iconst (v := 0) dX1_trim_0 (by decide) ?_
  refine sj_aload_n 0 dX1_trim_1 rfl ?_
  refine sj_getR fdX1_39_0 hf dX1_trim_2 (fun v1 hf => ?_)
  refine sj_getI fdX1_61_1 hf dX1_trim_5 (fun v2 hf => ?_)
  refine sj_iload_n 1 dX1_trim_8 rfl ?_
  refine sj_xV (rest := []) (fun _ _ _ e => sj_runS (n := 3) (rest := []) (sX1_requireFrom l hl G 0 v2 a1 h _ _ _ e) rfl rfl q2353 q2354 q116 q2355 (by decide +kernel) rfl ⟨Nat.le_of_ble_eq_true rfl, Nat.le_of_ble_eq_true rfl⟩ rfl (Nat.le_of_ble_eq_true rfl) dX1_trim_9) hf (fun e9 h c hf => ?_) (fun h c hf => ?_)
  · exact sj_outX hf rfl (by intro x hx; cases hx)
  refine sj_aload_n 0 dX1_trim_12 rfl ?_
  refine sj_getR fdX1_39_0 hf dX1_trim_13 (fun v3 hf => ?_)
  refine sj_iload_n 1 dX1_trim_16 rfl ?_
  refine sj_put (fpX1_61_1 _ _) hf dX1_trim_17 (fun h hf => ?_)
  refine sj_iload_n 1 dX1_trim_20 rfl ?_
  exact sj_iret (o := (sd_ox sd_oI)) hf rfl rfl rfl dX1_trim_21
/-! SofaDig.requireIndex(II)V -/
abbrev cX1_requireIndex : ByteArray := prog_1_method_3_code
def yX1_requireIndex : MethodName := ⟨RX1, "requireIndex", "(II)V"⟩
def dkwX1_requireIndex_0 : List UInt8 := [26, 155, 0, 8, 26, 27, 161, 0, 11, 187, 0, 10, 89, 183, 0, 12, 191, 177]
abbrev dktX1_requireIndex_0 : List UInt8 := dkwX1_requireIndex_0 ++ []
theorem dksX1_requireIndex_0 : cX1_requireIndex.data.toList.drop 0 = dktX1_requireIndex_0 := by decide +kernel
theorem dX1_requireIndex_0 : decode cX1_requireIndex 0 = .ok (.iload_n 0, 1) := dk_26 (dk_at dksX1_requireIndex_0 0 rfl rfl)
theorem dX1_requireIndex_1 : decode cX1_requireIndex 1 = .ok (.ifCond .lt 8, 3) := dk_155 0 8 (dk_at dksX1_requireIndex_0 1 rfl rfl)
theorem dX1_requireIndex_4 : decode cX1_requireIndex 4 = .ok (.iload_n 0, 1) := dk_26 (dk_at dksX1_requireIndex_0 4 rfl rfl)
theorem dX1_requireIndex_5 : decode cX1_requireIndex 5 = .ok (.iload_n 1, 1) := dk_27 (dk_at dksX1_requireIndex_0 5 rfl rfl)
theorem dX1_requireIndex_6 : decode cX1_requireIndex 6 = .ok (.if_icmp .lt 11, 3) := dk_161 0 11 (dk_at dksX1_requireIndex_0 6 rfl rfl)
theorem dX1_requireIndex_9 : decode cX1_requireIndex 9 = .ok (.new 10, 3) := dk_187 0 10 (dk_at dksX1_requireIndex_0 9 rfl rfl)
theorem dX1_requireIndex_12 : decode cX1_requireIndex 12 = .ok (.dup, 1) := dk_89 (dk_at dksX1_requireIndex_0 12 rfl rfl)
theorem dX1_requireIndex_13 : decode cX1_requireIndex 13 = .ok (.invokespecial 12, 3) := dk_183 0 12 (dk_at dksX1_requireIndex_0 13 rfl rfl)
theorem dX1_requireIndex_16 : decode cX1_requireIndex 16 = .ok (.athrow, 1) := dk_191 (dk_at dksX1_requireIndex_0 16 rfl rfl)
theorem dX1_requireIndex_17 : decode cX1_requireIndex 17 = .ok (.return_, 1) := dk_177 (dk_at dksX1_requireIndex_0 17 rfl rfl)
theorem tw50_12 : vy_at0 "SofaDig" 12 "java/lang/IndexOutOfBoundsException" ["java/lang/RuntimeException", "java/lang/Exception"] = ([129, 697, 706, 712, 715, 717, 698, 699, 188, 189, 700, 705, 713, 808, 687, 809, 689, 810, 691, 701, 703, 693, 2407, 2408, 2409, 2336, 678, 2336, 2337, 2338, 1047, 680, 1047, 1048, 1049, 698, 682, 2406, 2398, 2399, 2400, 711, 2401, 2402, 2403, 2404, 696, 695, 2405] : List Nat).filterMap (fun i => lw_tbl[i]?) := by decide +kernel
theorem tw50_12g : (vy_at0 "SofaDig" 12 "java/lang/IndexOutOfBoundsException" ["java/lang/RuntimeException", "java/lang/Exception"]).all sd_gk = true := by decide +kernel
abbrev mX1_requireIndex : sd_Y := (yX1_requireIndex, cX1_requireIndex, 2, none, none)
def fX1_requireIndex_b9 (G : sd_G)  : sd_M (Unit ⊕ Nat) :=
  sd_bnd (sd_new 50 6 []) fun e9 => sd_ret (.inr e9)
set_option maxHeartbeats 4000000 in
theorem sX1_requireIndex_b9 (l : Launch) (hl : l.stackTraces = false) (G : sd_G) (a1 : Int32) (a2 : Int32) (ρ : Unit ⊕ Nat) (h2 : sd_H) (cT : Nat × Nat)  (h : sd_H) (c : Nat × Nat) (hf : fX1_requireIndex_b9 G  h = some (ρ, c, h2)) : sd_J mX1_requireIndex ((l, G), (6, 81), [.int a1, .int a2], ((sd_ox sd_oV) ρ, h2), cT) 9 [] [] h c := by
  unfold fX1_requireIndex_b9 at hf
  exact sj_throw0 (o := sd_oV) ["java/lang/RuntimeException", "java/lang/Exception"] [129, 697, 706, 712, 715, 717, 698, 699, 188, 189, 700, 705, 713, 808, 687, 809, 689, 810, 691, 701, 703, 693, 2407, 2408, 2409, 2336, 678, 2336, 2337, 2338, 1047, 680, 1047, 1048, 1049, 698, 682, 2406, 2398, 2399, 2400, 711, 2401, 2402, 2403, 2404, 696, 695, 2405] hl rfl rfl rfl (by decide) (by decide +kernel) (by decide +kernel) tw50_12 tw50_12g q2397 q179 (show 6 ≤ _ from Nat.le_of_ble_eq_true rfl) (Nat.le_of_ble_eq_true rfl) dX1_requireIndex_9 dX1_requireIndex_12 dX1_requireIndex_13 dX1_requireIndex_16 hf
def fX1_requireIndex (G : sd_G) (a1 : Int32) (a2 : Int32) : sd_M (Unit ⊕ Nat) :=
  if a1 < 0 then (
    fX1_requireIndex_b9 G)
  else (
    if a1 < a2 then (
      sd_ret (.inl ()))
    else (
      fX1_requireIndex_b9 G))
set_option maxHeartbeats 4000000 in
theorem sX1_requireIndex (l : Launch) (hl : l.stackTraces = false) (G : sd_G) (a1 : Int32) (a2 : Int32) (h : sd_H) (ρ : Unit ⊕ Nat) (cT : Nat × Nat) (h2 : sd_H) (hf : fX1_requireIndex G a1 a2 h = some (ρ, cT, h2)) : sd_Met mX1_requireIndex ((l, G), (6, 81), [.int a1, .int a2], ((sd_ox sd_oV) ρ, h2), cT) h := by
  refine sd_entry (plainFor_of_name rfl) rfl (Nat.le_of_ble_eq_true rfl) ?_
  show sd_J mX1_requireIndex ((l, G), (6, 81), [.int a1, .int a2], ((sd_ox sd_oV) ρ, h2), cT) 0 [(0, .int a1), (1, .int a2)] [] h cT
  unfold fX1_requireIndex at hf
  refine sj_iload_n 0 dX1_requireIndex_0 rfl ?_
  refine sj_iflt 9 hf dX1_requireIndex_1 (by decide) (fun g1 hf => ?_) (fun g1 hf => ?_)
  · exact sj_loc [] rfl (sX1_requireIndex_b9 l hl G a1 a2 ρ h2 cT  _ _ hf)
  · refine sj_iload_n 0 dX1_requireIndex_4 rfl ?_
    refine sj_iload_n 1 dX1_requireIndex_5 rfl ?_
    refine sj_iclt 17 hf dX1_requireIndex_6 (by decide) (fun g6 hf => ?_) (fun g6 hf => ?_)
    · exact sj_vret (o := (sd_ox sd_oV)) hf rfl rfl rfl dX1_requireIndex_17
    · exact sj_loc [] rfl (sX1_requireIndex_b9 l hl G a1 a2 ρ h2 cT  _ _ hf)
/-! SofaDig.seat(I)I -/
abbrev cX1_seat : ByteArray := prog_1_method_11_code
def yX1_seat : MethodName := ⟨RX1, "seat", "(I)I"⟩
def dkwX1_seat_0 : List UInt8 := [27, 42, 180, 0, 54, 180, 0, 99, 184, 0, 25, 27, 172]
abbrev dktX1_seat_0 : List UInt8 := dkwX1_seat_0 ++ []
theorem dksX1_seat_0 : cX1_seat.data.toList.drop 0 = dktX1_seat_0 := by decide +kernel
theorem dX1_seat_0 : decode cX1_seat 0 = .ok (.iload_n 1, 1) := dk_27 (dk_at dksX1_seat_0 0 rfl rfl)
theorem dX1_seat_1 : decode cX1_seat 1 = .ok (.aload_n 0, 1) := dk_42 (dk_at dksX1_seat_0 1 rfl rfl)
theorem dX1_seat_2 : decode cX1_seat 2 = .ok (.getfield 54, 3) := dk_180 0 54 (dk_at dksX1_seat_0 2 rfl rfl)
theorem dX1_seat_5 : decode cX1_seat 5 = .ok (.getfield 99, 3) := dk_180 0 99 (dk_at dksX1_seat_0 5 rfl rfl)
theorem dX1_seat_8 : decode cX1_seat 8 = .ok (.invokestatic 25, 3) := dk_184 0 25 (dk_at dksX1_seat_0 8 rfl rfl)
theorem dX1_seat_11 : decode cX1_seat 11 = .ok (.iload_n 1, 1) := dk_27 (dk_at dksX1_seat_0 11 rfl rfl)
theorem dX1_seat_12 : decode cX1_seat 12 = .ok (.ireturn, 1) := dk_172 (dk_at dksX1_seat_0 12 rfl rfl)
abbrev mX1_seat : sd_Y := (yX1_seat, cX1_seat, 2, some (.int), none)
def fX1_seat (G : sd_G) (a0 : Nat) (a1 : Int32) : sd_M (Int32 ⊕ Nat) :=
  sd_bnd (sd_getR G 0 2 a0) fun v1 =>
  sd_bnd (sd_getI G 2 1 v1) fun v2 =>
  sd_bx (fX1_requireIndex G a1 v2) (fun e8 =>
    sd_ret (.inr e8)) fun _ =>
  sd_ret (.inl a1)
set_option maxHeartbeats 4000000 in
theorem sX1_seat (l : Launch) (hl : l.stackTraces = false) (G : sd_G) (a0 : Nat) (a1 : Int32) (h : sd_H) (ρ : Int32 ⊕ Nat) (cT : Nat × Nat) (h2 : sd_H) (hf : fX1_seat G a0 a1 h = some (ρ, cT, h2)) : sd_Met mX1_seat ((l, G), (7, 102), [.ref a0, .int a1], ((sd_ox sd_oI) ρ, h2), cT) h := by
  refine sd_entry (plainFor_of_name rfl) rfl (Nat.le_of_ble_eq_true rfl) ?_
  show sd_J mX1_seat ((l, G), (7, 102), [.ref a0, .int a1], ((sd_ox sd_oI) ρ, h2), cT) 0 [(0, .ref a0), (1, .int a1)] [] h cT
  unfold fX1_seat at hf
  refine sj_iload_n 1 dX1_seat_0 rfl ?_
  refine sj_aload_n 0 dX1_seat_1 rfl ?_
  refine sj_getR fdX1_54_0 hf dX1_seat_2 (fun v1 hf => ?_)
  refine sj_getI fdX1_99_2 hf dX1_seat_5 (fun v2 hf => ?_)
  refine sj_xV (rest := []) (fun _ _ _ e => sj_runS (n := 2) (rest := []) (sX1_requireIndex l hl G a1 v2 h _ _ _ e) rfl rfl q2394 q2395 q116 q2396 (by decide +kernel) rfl ⟨Nat.le_of_ble_eq_true rfl, Nat.le_of_ble_eq_true rfl⟩ rfl (Nat.le_of_ble_eq_true rfl) dX1_seat_8) hf (fun e8 h c hf => ?_) (fun h c hf => ?_)
  · exact sj_outX hf rfl (by intro x hx; cases hx)
  refine sj_iload_n 1 dX1_seat_11 rfl ?_
  exact sj_iret (o := (sd_ox sd_oI)) hf rfl rfl rfl dX1_seat_12
/-! SofaDig.heightOf(I)I -/
abbrev cX1_heightOf : ByteArray := prog_1_method_25_code
def yX1_heightOf : MethodName := ⟨RX1, "heightOf", "(I)I"⟩
def dkwX1_heightOf_0 : List UInt8 := [42, 180, 0, 54, 42, 27, 182, 0, 142, 182, 0, 102, 172]
abbrev dktX1_heightOf_0 : List UInt8 := dkwX1_heightOf_0 ++ []
theorem dksX1_heightOf_0 : cX1_heightOf.data.toList.drop 0 = dktX1_heightOf_0 := by decide +kernel
theorem dX1_heightOf_0 : decode cX1_heightOf 0 = .ok (.aload_n 0, 1) := dk_42 (dk_at dksX1_heightOf_0 0 rfl rfl)
theorem dX1_heightOf_1 : decode cX1_heightOf 1 = .ok (.getfield 54, 3) := dk_180 0 54 (dk_at dksX1_heightOf_0 1 rfl rfl)
theorem dX1_heightOf_4 : decode cX1_heightOf 4 = .ok (.aload_n 0, 1) := dk_42 (dk_at dksX1_heightOf_0 4 rfl rfl)
theorem dX1_heightOf_5 : decode cX1_heightOf 5 = .ok (.iload_n 1, 1) := dk_27 (dk_at dksX1_heightOf_0 5 rfl rfl)
theorem dX1_heightOf_6 : decode cX1_heightOf 6 = .ok (.invokevirtual 142, 3) := dk_182 0 142 (dk_at dksX1_heightOf_0 6 rfl rfl)
theorem dX1_heightOf_9 : decode cX1_heightOf 9 = .ok (.invokevirtual 102, 3) := dk_182 0 102 (dk_at dksX1_heightOf_0 9 rfl rfl)
theorem dX1_heightOf_12 : decode cX1_heightOf 12 = .ok (.ireturn, 1) := dk_172 (dk_at dksX1_heightOf_0 12 rfl rfl)
abbrev mX1_heightOf : sd_Y := (yX1_heightOf, cX1_heightOf, 2, some (.int), none)
def fX1_heightOf (G : sd_G) (a0 : Nat) (a1 : Int32) : sd_M (Int32 ⊕ Nat) :=
  sd_bnd (sd_getR G 0 2 a0) fun v1 =>
  sd_bnd (sd_isC G 0 a0) fun _ =>
  sd_bx (fX1_seat G a0 a1) (fun e6 =>
    sd_ret (.inr e6)) fun r2 =>
  sd_bnd (sd_isC G 2 v1) fun _ =>
  sd_bnd (fX3_height G v1 r2) fun r3 =>
  sd_ret (.inl r3)
set_option maxHeartbeats 4000000 in
theorem sX1_heightOf (l : Launch) (hl : l.stackTraces = false) (G : sd_G) (a0 : Nat) (a1 : Int32) (h : sd_H) (ρ : Int32 ⊕ Nat) (cT : Nat × Nat) (h2 : sd_H) (hf : fX1_heightOf G a0 a1 h = some (ρ, cT, h2)) : sd_Met mX1_heightOf ((l, G), (8, 123), [.ref a0, .int a1], ((sd_ox sd_oI) ρ, h2), cT) h := by
  refine sd_entry (plainFor_of_name rfl) rfl (Nat.le_of_ble_eq_true rfl) ?_
  show sd_J mX1_heightOf ((l, G), (8, 123), [.ref a0, .int a1], ((sd_ox sd_oI) ρ, h2), cT) 0 [(0, .ref a0), (1, .int a1)] [] h cT
  unfold fX1_heightOf at hf
  refine sj_aload_n 0 dX1_heightOf_0 rfl ?_
  refine sj_getR fdX1_54_0 hf dX1_heightOf_1 (fun v1 hf => ?_)
  refine sj_aload_n 0 dX1_heightOf_4 rfl ?_
  refine sj_iload_n 1 dX1_heightOf_5 rfl ?_
  obtain ⟨fs6, he6, hf⟩ := sd_isC_some hf
  refine sj_xI (rest := [.ref v1]) (fun _ _ _ e => sj_runV (n := 1) (As := [.int a1]) (rest := [.ref v1]) (sX1_seat l hl G a0 a1 h _ _ _ e) he6 rfl rfl rfl rfl q2390 q2392 qs37 q116 q2393 (by decide +kernel) rfl rfl ⟨Nat.le_of_ble_eq_true rfl, Nat.le_of_ble_eq_true rfl⟩ rfl (Nat.le_of_ble_eq_true rfl) dX1_heightOf_6) hf (fun e6 h c hf => ?_) (fun r2 h c hf => ?_)
  · exact sj_outX hf rfl (by intro x hx; cases hx)
  obtain ⟨fs9, he9, hf⟩ := sd_isC_some hf
  refine sj_cI (rest := []) (fun _ _ _ e => sj_runV (n := 1) (As := [.int r2]) (rest := []) (sX3_height l G v1 r2 h _ _ _ e) he9 rfl rfl rfl rfl q2154 q2155 q2156 q118 q2157 (by decide +kernel) rfl rfl ⟨Nat.le_of_ble_eq_true rfl, Nat.le_of_ble_eq_true rfl⟩ rfl (Nat.le_of_ble_eq_true rfl) dX1_heightOf_9) hf (fun r3 h c hf => ?_)
  exact sj_iret (o := (sd_ox sd_oI)) hf rfl rfl rfl dX1_heightOf_12
/-! SofaDig.isPropped(I)Z -/
abbrev cX1_isPropped : ByteArray := prog_1_method_26_code
def yX1_isPropped : MethodName := ⟨RX1, "isPropped", "(I)Z"⟩
def dkwX1_isPropped_0 : List UInt8 := [42, 180, 0, 54, 42, 27, 182, 0, 142, 182, 0, 145, 172]
abbrev dktX1_isPropped_0 : List UInt8 := dkwX1_isPropped_0 ++ []
theorem dksX1_isPropped_0 : cX1_isPropped.data.toList.drop 0 = dktX1_isPropped_0 := by decide +kernel
theorem dX1_isPropped_0 : decode cX1_isPropped 0 = .ok (.aload_n 0, 1) := dk_42 (dk_at dksX1_isPropped_0 0 rfl rfl)
theorem dX1_isPropped_1 : decode cX1_isPropped 1 = .ok (.getfield 54, 3) := dk_180 0 54 (dk_at dksX1_isPropped_0 1 rfl rfl)
theorem dX1_isPropped_4 : decode cX1_isPropped 4 = .ok (.aload_n 0, 1) := dk_42 (dk_at dksX1_isPropped_0 4 rfl rfl)
theorem dX1_isPropped_5 : decode cX1_isPropped 5 = .ok (.iload_n 1, 1) := dk_27 (dk_at dksX1_isPropped_0 5 rfl rfl)
theorem dX1_isPropped_6 : decode cX1_isPropped 6 = .ok (.invokevirtual 142, 3) := dk_182 0 142 (dk_at dksX1_isPropped_0 6 rfl rfl)
theorem dX1_isPropped_9 : decode cX1_isPropped 9 = .ok (.invokevirtual 145, 3) := dk_182 0 145 (dk_at dksX1_isPropped_0 9 rfl rfl)
theorem dX1_isPropped_12 : decode cX1_isPropped 12 = .ok (.ireturn, 1) := dk_172 (dk_at dksX1_isPropped_0 12 rfl rfl)
abbrev mX1_isPropped : sd_Y := (yX1_isPropped, cX1_isPropped, 2, some (.boolean), none)
def fX1_isPropped (G : sd_G) (a0 : Nat) (a1 : Int32) : sd_M (Int32 ⊕ Nat) :=
  sd_bnd (sd_getR G 0 2 a0) fun v1 =>
  sd_bnd (sd_isC G 0 a0) fun _ =>
  sd_bx (fX1_seat G a0 a1) (fun e6 =>
    sd_ret (.inr e6)) fun r2 =>
  sd_bnd (sd_isC G 2 v1) fun _ =>
  sd_bnd (fX3_isPropped G v1 r2) fun r3 =>
  sd_retNX .boolean r3
set_option maxHeartbeats 4000000 in
theorem sX1_isPropped (l : Launch) (hl : l.stackTraces = false) (G : sd_G) (a0 : Nat) (a1 : Int32) (h : sd_H) (ρ : Int32 ⊕ Nat) (cT : Nat × Nat) (h2 : sd_H) (hf : fX1_isPropped G a0 a1 h = some (ρ, cT, h2)) : sd_Met mX1_isPropped ((l, G), (8, 123), [.ref a0, .int a1], ((sd_ox sd_oI) ρ, h2), cT) h := by
  refine sd_entry (plainFor_of_name rfl) rfl (Nat.le_of_ble_eq_true rfl) ?_
  show sd_J mX1_isPropped ((l, G), (8, 123), [.ref a0, .int a1], ((sd_ox sd_oI) ρ, h2), cT) 0 [(0, .ref a0), (1, .int a1)] [] h cT
  unfold fX1_isPropped at hf
  refine sj_aload_n 0 dX1_isPropped_0 rfl ?_
  refine sj_getR fdX1_54_0 hf dX1_isPropped_1 (fun v1 hf => ?_)
  refine sj_aload_n 0 dX1_isPropped_4 rfl ?_
  refine sj_iload_n 1 dX1_isPropped_5 rfl ?_
  obtain ⟨fs6, he6, hf⟩ := sd_isC_some hf
  refine sj_xI (rest := [.ref v1]) (fun _ _ _ e => sj_runV (n := 1) (As := [.int a1]) (rest := [.ref v1]) (sX1_seat l hl G a0 a1 h _ _ _ e) he6 rfl rfl rfl rfl q2390 q2392 qs37 q116 q2393 (by decide +kernel) rfl rfl ⟨Nat.le_of_ble_eq_true rfl, Nat.le_of_ble_eq_true rfl⟩ rfl (Nat.le_of_ble_eq_true rfl) dX1_isPropped_6) hf (fun e6 h c hf => ?_) (fun r2 h c hf => ?_)
  · exact sj_outX hf rfl (by intro x hx; cases hx)
  obtain ⟨fs9, he9, hf⟩ := sd_isC_some hf
  refine sj_cI (rest := []) (fun _ _ _ e => sj_runV (n := 1) (As := [.int r2]) (rest := []) (sX3_isPropped l G v1 r2 h _ _ _ e) he9 rfl rfl rfl rfl q2293 q2147 q2148 q118 q2149 (by decide +kernel) rfl rfl ⟨Nat.le_of_ble_eq_true rfl, Nat.le_of_ble_eq_true rfl⟩ rfl (Nat.le_of_ble_eq_true rfl) dX1_isPropped_9) hf (fun r3 h c hf => ?_)
  exact sj_zretX hf rfl rfl dX1_isPropped_12
/-! SofaDig.stacked(I)I -/
abbrev cX1_stacked : ByteArray := prog_1_method_12_code
def yX1_stacked : MethodName := ⟨RX1, "stacked", "(I)I"⟩
def dkwX1_stacked_1 : List UInt8 := [167, 0, 4, 3, 184, 0, 63, 27, 172]
abbrev dktX1_stacked_1 : List UInt8 := dkwX1_stacked_1 ++ []
def dkwX1_stacked_0 : List UInt8 := [27, 42, 180, 0, 54, 180, 0, 99, 184, 0, 25, 42, 180, 0, 54, 27, 182, 0, 102, 158, 0, 7, 4]
abbrev dktX1_stacked_0 : List UInt8 := dkwX1_stacked_0 ++ dktX1_stacked_1
theorem dksX1_stacked_0 : cX1_stacked.data.toList.drop 0 = dktX1_stacked_0 := by decide +kernel
theorem dksX1_stacked_1 : cX1_stacked.data.toList.drop 23 = dktX1_stacked_1 := dk_seg dksX1_stacked_0 23 rfl rfl
theorem dX1_stacked_0 : decode cX1_stacked 0 = .ok (.iload_n 1, 1) := dk_27 (dk_at dksX1_stacked_0 0 rfl rfl)
theorem dX1_stacked_1 : decode cX1_stacked 1 = .ok (.aload_n 0, 1) := dk_42 (dk_at dksX1_stacked_0 1 rfl rfl)
theorem dX1_stacked_2 : decode cX1_stacked 2 = .ok (.getfield 54, 3) := dk_180 0 54 (dk_at dksX1_stacked_0 2 rfl rfl)
theorem dX1_stacked_5 : decode cX1_stacked 5 = .ok (.getfield 99, 3) := dk_180 0 99 (dk_at dksX1_stacked_0 5 rfl rfl)
theorem dX1_stacked_8 : decode cX1_stacked 8 = .ok (.invokestatic 25, 3) := dk_184 0 25 (dk_at dksX1_stacked_0 8 rfl rfl)
theorem dX1_stacked_11 : decode cX1_stacked 11 = .ok (.aload_n 0, 1) := dk_42 (dk_at dksX1_stacked_0 11 rfl rfl)
theorem dX1_stacked_12 : decode cX1_stacked 12 = .ok (.getfield 54, 3) := dk_180 0 54 (dk_at dksX1_stacked_0 12 rfl rfl)
theorem dX1_stacked_15 : decode cX1_stacked 15 = .ok (.iload_n 1, 1) := dk_27 (dk_at dksX1_stacked_0 15 rfl rfl)
theorem dX1_stacked_16 : decode cX1_stacked 16 = .ok (.invokevirtual 102, 3) := dk_182 0 102 (dk_at dksX1_stacked_0 16 rfl rfl)
theorem dX1_stacked_19 : decode cX1_stacked 19 = .ok (.ifCond .le 7, 3) := dk_158 0 7 (dk_at dksX1_stacked_0 19 rfl rfl)
theorem dX1_stacked_22 : decode cX1_stacked 22 = .ok (.iconst 1, 1) := dk_4 (dk_at dksX1_stacked_0 22 rfl rfl)
theorem dX1_stacked_23 : decode cX1_stacked 23 = .ok (.goto 4, 3) := dk_167 0 4 (dk_at dksX1_stacked_1 0 rfl rfl)
theorem dX1_stacked_26 : decode cX1_stacked 26 = .ok (.iconst 0, 1) := dk_3 (dk_at dksX1_stacked_1 3 rfl rfl)
theorem dX1_stacked_27 : decode cX1_stacked 27 = .ok (.invokestatic 63, 3) := dk_184 0 63 (dk_at dksX1_stacked_1 4 rfl rfl)
theorem dX1_stacked_30 : decode cX1_stacked 30 = .ok (.iload_n 1, 1) := dk_27 (dk_at dksX1_stacked_1 7 rfl rfl)
theorem dX1_stacked_31 : decode cX1_stacked 31 = .ok (.ireturn, 1) := dk_172 (dk_at dksX1_stacked_1 8 rfl rfl)
abbrev mX1_stacked : sd_Y := (yX1_stacked, cX1_stacked, 2, some (.int), none)
def fX1_stacked (G : sd_G) (a0 : Nat) (a1 : Int32) : sd_M (Int32 ⊕ Nat) :=
  sd_bnd (sd_getR G 0 2 a0) fun v1 =>
  sd_bnd (sd_getI G 2 1 v1) fun v2 =>
  sd_bx (fX1_requireIndex G a1 v2) (fun e8 =>
    sd_ret (.inr e8)) fun _ =>
  sd_bnd (sd_getR G 0 2 a0) fun v3 =>
  sd_bnd (sd_isC G 2 v3) fun _ =>
  sd_bnd (fX3_height G v3 a1) fun r4 =>
  if r4 ≤ 0 then (
    sd_bx (fX1_requireState G 0) (fun e27 =>
      sd_ret (.inr e27)) fun _ =>
    sd_ret (.inl a1))
  else (
    sd_bx (fX1_requireState G 1) (fun e27 =>
      sd_ret (.inr e27)) fun _ =>
    sd_ret (.inl a1))
set_option maxHeartbeats 4000000 in
theorem sX1_stacked (l : Launch) (hl : l.stackTraces = false) (G : sd_G) (a0 : Nat) (a1 : Int32) (h : sd_H) (ρ : Int32 ⊕ Nat) (cT : Nat × Nat) (h2 : sd_H) (hf : fX1_stacked G a0 a1 h = some (ρ, cT, h2)) : sd_Met mX1_stacked ((l, G), (7, 102), [.ref a0, .int a1], ((sd_ox sd_oI) ρ, h2), cT) h := by
  refine sd_entry (plainFor_of_name rfl) rfl (Nat.le_of_ble_eq_true rfl) ?_
  show sd_J mX1_stacked ((l, G), (7, 102), [.ref a0, .int a1], ((sd_ox sd_oI) ρ, h2), cT) 0 [(0, .ref a0), (1, .int a1)] [] h cT
  unfold fX1_stacked at hf
  refine sj_iload_n 1 dX1_stacked_0 rfl ?_
  refine sj_aload_n 0 dX1_stacked_1 rfl ?_
  refine sj_getR fdX1_54_0 hf dX1_stacked_2 (fun v1 hf => ?_)
  refine sj_getI fdX1_99_2 hf dX1_stacked_5 (fun v2 hf => ?_)
  refine sj_xV (rest := []) (fun _ _ _ e => sj_runS (n := 2) (rest := []) (sX1_requireIndex l hl G a1 v2 h _ _ _ e) rfl rfl q2394 q2395 q116 q2396 (by decide +kernel) rfl ⟨Nat.le_of_ble_eq_true rfl, Nat.le_of_ble_eq_true rfl⟩ rfl (Nat.le_of_ble_eq_true rfl) dX1_stacked_8) hf (fun e8 h c hf => ?_) (fun h c hf => ?_)
  · exact sj_outX hf rfl (by intro x hx; cases hx)
  refine sj_aload_n 0 dX1_stacked_11 rfl ?_
  refine sj_getR fdX1_54_0 hf dX1_stacked_12 (fun v3 hf => ?_)
  refine sj_iload_n 1 dX1_stacked_15 rfl ?_
  obtain ⟨fs16, he16, hf⟩ := sd_isC_some hf
  refine sj_cI (rest := []) (fun _ _ _ e => sj_runV (n := 1) (As := [.int a1]) (rest := []) (sX3_height l G v3 a1 h _ _ _ e) he16 rfl rfl rfl rfl q2154 q2155 q2156 q118 q2157 (by decide +kernel) rfl rfl ⟨Nat.le_of_ble_eq_true rfl, Nat.le_of_ble_eq_true rfl⟩ rfl (Nat.le_of_ble_eq_true rfl) dX1_stacked_16) hf (fun r4 h c hf => ?_)
  refine sj_ifle 26 hf dX1_stacked_19 (by decide) (fun g19 hf => ?_) (fun g19 hf => ?_)
  · refine sj_iconst (v := 0) dX1_stacked_26 (by decide) ?_
    refine sj_xV (rest := []) (fun _ _ _ e => sj_runS (n := 1) (rest := []) (sX1_requireState l hl G 0 h _ _ _ e) rfl rfl q2320 q2321 q116 q2322 (by decide +kernel) rfl ⟨Nat.le_of_ble_eq_true rfl, Nat.le_of_ble_eq_true rfl⟩ rfl (Nat.le_of_ble_eq_true rfl) dX1_stacked_27) hf (fun e27 h c hf => ?_) (fun h c hf => ?_)
    · exact sj_outX hf rfl (by intro x hx; cases hx)
    refine sj_iload_n 1 dX1_stacked_30 rfl ?_
    exact sj_iret (o := (sd_ox sd_oI)) hf rfl rfl rfl dX1_stacked_31
  · refine sj_iconst (v := 1) dX1_stacked_22 (by decide) ?_
    refine sj_goto 27 dX1_stacked_23 (by decide) ?_
    refine sj_xV (rest := []) (fun _ _ _ e => sj_runS (n := 1) (rest := []) (sX1_requireState l hl G 1 h _ _ _ e) rfl rfl q2320 q2321 q116 q2322 (by decide +kernel) rfl ⟨Nat.le_of_ble_eq_true rfl, Nat.le_of_ble_eq_true rfl⟩ rfl (Nat.le_of_ble_eq_true rfl) dX1_stacked_27) hf (fun e27 h c hf => ?_) (fun h c hf => ?_)
    · exact sj_outX hf rfl (by intro x hx; cases hx)
    refine sj_iload_n 1 dX1_stacked_30 rfl ?_
    exact sj_iret (o := (sd_ox sd_oI)) hf rfl rfl rfl dX1_stacked_31
/-! SofaDig.topStratum(I)I -/
abbrev cX1_topStratum : ByteArray := prog_1_method_27_code
def yX1_topStratum : MethodName := ⟨RX1, "topStratum", "(I)I"⟩
def dkwX1_topStratum_0 : List UInt8 := [42, 180, 0, 54, 42, 27, 182, 0, 149, 182, 0, 152, 180, 0, 156, 172]
abbrev dktX1_topStratum_0 : List UInt8 := dkwX1_topStratum_0 ++ []
theorem dksX1_topStratum_0 : cX1_topStratum.data.toList.drop 0 = dktX1_topStratum_0 := by decide +kernel
theorem dX1_topStratum_0 : decode cX1_topStratum 0 = .ok (.aload_n 0, 1) := dk_42 (dk_at dksX1_topStratum_0 0 rfl rfl)
theorem dX1_topStratum_1 : decode cX1_topStratum 1 = .ok (.getfield 54, 3) := dk_180 0 54 (dk_at dksX1_topStratum_0 1 rfl rfl)
theorem dX1_topStratum_4 : decode cX1_topStratum 4 = .ok (.aload_n 0, 1) := dk_42 (dk_at dksX1_topStratum_0 4 rfl rfl)
theorem dX1_topStratum_5 : decode cX1_topStratum 5 = .ok (.iload_n 1, 1) := dk_27 (dk_at dksX1_topStratum_0 5 rfl rfl)
theorem dX1_topStratum_6 : decode cX1_topStratum 6 = .ok (.invokevirtual 149, 3) := dk_182 0 149 (dk_at dksX1_topStratum_0 6 rfl rfl)
theorem dX1_topStratum_9 : decode cX1_topStratum 9 = .ok (.invokevirtual 152, 3) := dk_182 0 152 (dk_at dksX1_topStratum_0 9 rfl rfl)
theorem dX1_topStratum_12 : decode cX1_topStratum 12 = .ok (.getfield 156, 3) := dk_180 0 156 (dk_at dksX1_topStratum_0 12 rfl rfl)
theorem dX1_topStratum_15 : decode cX1_topStratum 15 = .ok (.ireturn, 1) := dk_172 (dk_at dksX1_topStratum_0 15 rfl rfl)
abbrev mX1_topStratum : sd_Y := (yX1_topStratum, cX1_topStratum, 2, some (.int), none)
def fX1_topStratum (G : sd_G) (a0 : Nat) (a1 : Int32) : sd_M (Int32 ⊕ Nat) :=
  sd_bnd (sd_getR G 0 2 a0) fun v1 =>
  sd_bnd (sd_isC G 0 a0) fun _ =>
  sd_bx (fX1_stacked G a0 a1) (fun e6 =>
    sd_ret (.inr e6)) fun r2 =>
  sd_bnd (sd_isC G 2 v1) fun _ =>
  sd_bnd (fX3_top G v1 r2) fun r3 =>
  sd_bnd (sd_getI G 3 0 r3) fun v4 =>
  sd_ret (.inl v4)
set_option maxHeartbeats 4000000 in
theorem sX1_topStratum (l : Launch) (hl : l.stackTraces = false) (G : sd_G) (a0 : Nat) (a1 : Int32) (h : sd_H) (ρ : Int32 ⊕ Nat) (cT : Nat × Nat) (h2 : sd_H) (hf : fX1_topStratum G a0 a1 h = some (ρ, cT, h2)) : sd_Met mX1_topStratum ((l, G), (8, 123), [.ref a0, .int a1], ((sd_ox sd_oI) ρ, h2), cT) h := by
  refine sd_entry (plainFor_of_name rfl) rfl (Nat.le_of_ble_eq_true rfl) ?_
  show sd_J mX1_topStratum ((l, G), (8, 123), [.ref a0, .int a1], ((sd_ox sd_oI) ρ, h2), cT) 0 [(0, .ref a0), (1, .int a1)] [] h cT
  unfold fX1_topStratum at hf
  refine sj_aload_n 0 dX1_topStratum_0 rfl ?_
  refine sj_getR fdX1_54_0 hf dX1_topStratum_1 (fun v1 hf => ?_)
  refine sj_aload_n 0 dX1_topStratum_4 rfl ?_
  refine sj_iload_n 1 dX1_topStratum_5 rfl ?_
  obtain ⟨fs6, he6, hf⟩ := sd_isC_some hf
  refine sj_xI (rest := [.ref v1]) (fun _ _ _ e => sj_runV (n := 1) (As := [.int a1]) (rest := [.ref v1]) (sX1_stacked l hl G a0 a1 h _ _ _ e) he6 rfl rfl rfl rfl q2426 q2428 qs38 q116 q2429 (by decide +kernel) rfl rfl ⟨Nat.le_of_ble_eq_true rfl, Nat.le_of_ble_eq_true rfl⟩ rfl (Nat.le_of_ble_eq_true rfl) dX1_topStratum_6) hf (fun e6 h c hf => ?_) (fun r2 h c hf => ?_)
  · exact sj_outX hf rfl (by intro x hx; cases hx)
  obtain ⟨fs9, he9, hf⟩ := sd_isC_some hf
  refine sj_cR (rest := []) (fun _ _ _ e => sj_runV (n := 1) (As := [.int r2]) (rest := []) (sX3_top l G v1 r2 h _ _ _ e) he9 rfl rfl rfl rfl q2297 q2240 q2241 q118 q2242 (by decide +kernel) rfl rfl ⟨Nat.le_of_ble_eq_true rfl, Nat.le_of_ble_eq_true rfl⟩ rfl (Nat.le_of_ble_eq_true rfl) dX1_topStratum_9) hf (fun r3 h c hf => ?_)
  refine sj_getI fdX1_156_3 hf dX1_topStratum_12 (fun v4 hf => ?_)
  exact sj_iret (o := (sd_ox sd_oI)) hf rfl rfl rfl dX1_topStratum_15
/-! SofaDig.isTopLoose(I)Z -/
abbrev cX1_isTopLoose : ByteArray := prog_1_method_28_code
def yX1_isTopLoose : MethodName := ⟨RX1, "isTopLoose", "(I)Z"⟩
def dkwX1_isTopLoose_0 : List UInt8 := [42, 180, 0, 54, 42, 27, 182, 0, 149, 182, 0, 152, 180, 0, 161, 172]
abbrev dktX1_isTopLoose_0 : List UInt8 := dkwX1_isTopLoose_0 ++ []
theorem dksX1_isTopLoose_0 : cX1_isTopLoose.data.toList.drop 0 = dktX1_isTopLoose_0 := by decide +kernel
theorem dX1_isTopLoose_0 : decode cX1_isTopLoose 0 = .ok (.aload_n 0, 1) := dk_42 (dk_at dksX1_isTopLoose_0 0 rfl rfl)
theorem dX1_isTopLoose_1 : decode cX1_isTopLoose 1 = .ok (.getfield 54, 3) := dk_180 0 54 (dk_at dksX1_isTopLoose_0 1 rfl rfl)
theorem dX1_isTopLoose_4 : decode cX1_isTopLoose 4 = .ok (.aload_n 0, 1) := dk_42 (dk_at dksX1_isTopLoose_0 4 rfl rfl)
theorem dX1_isTopLoose_5 : decode cX1_isTopLoose 5 = .ok (.iload_n 1, 1) := dk_27 (dk_at dksX1_isTopLoose_0 5 rfl rfl)
theorem dX1_isTopLoose_6 : decode cX1_isTopLoose 6 = .ok (.invokevirtual 149, 3) := dk_182 0 149 (dk_at dksX1_isTopLoose_0 6 rfl rfl)
theorem dX1_isTopLoose_9 : decode cX1_isTopLoose 9 = .ok (.invokevirtual 152, 3) := dk_182 0 152 (dk_at dksX1_isTopLoose_0 9 rfl rfl)
theorem dX1_isTopLoose_12 : decode cX1_isTopLoose 12 = .ok (.getfield 161, 3) := dk_180 0 161 (dk_at dksX1_isTopLoose_0 12 rfl rfl)
theorem dX1_isTopLoose_15 : decode cX1_isTopLoose 15 = .ok (.ireturn, 1) := dk_172 (dk_at dksX1_isTopLoose_0 15 rfl rfl)
theorem fdX1_161_3 : sd_Fd "SofaDig" 161 3 3 := ⟨(RX4, TX4, 4), "SofaDig$Cushion", rfl, by decide, rfl, in_X4, Or.inl rfl, Or.inr ⟨_, q327⟩⟩
abbrev mX1_isTopLoose : sd_Y := (yX1_isTopLoose, cX1_isTopLoose, 2, some (.boolean), none)
def fX1_isTopLoose (G : sd_G) (a0 : Nat) (a1 : Int32) : sd_M (Int32 ⊕ Nat) :=
  sd_bnd (sd_getR G 0 2 a0) fun v1 =>
  sd_bnd (sd_isC G 0 a0) fun _ =>
  sd_bx (fX1_stacked G a0 a1) (fun e6 =>
    sd_ret (.inr e6)) fun r2 =>
  sd_bnd (sd_isC G 2 v1) fun _ =>
  sd_bnd (fX3_top G v1 r2) fun r3 =>
  sd_bnd (sd_getI G 3 3 r3) fun v4 =>
  sd_retNX .boolean v4
set_option maxHeartbeats 4000000 in
theorem sX1_isTopLoose (l : Launch) (hl : l.stackTraces = false) (G : sd_G) (a0 : Nat) (a1 : Int32) (h : sd_H) (ρ : Int32 ⊕ Nat) (cT : Nat × Nat) (h2 : sd_H) (hf : fX1_isTopLoose G a0 a1 h = some (ρ, cT, h2)) : sd_Met mX1_isTopLoose ((l, G), (8, 123), [.ref a0, .int a1], ((sd_ox sd_oI) ρ, h2), cT) h := by
  refine sd_entry (plainFor_of_name rfl) rfl (Nat.le_of_ble_eq_true rfl) ?_
  show sd_J mX1_isTopLoose ((l, G), (8, 123), [.ref a0, .int a1], ((sd_ox sd_oI) ρ, h2), cT) 0 [(0, .ref a0), (1, .int a1)] [] h cT
  unfold fX1_isTopLoose at hf
  refine sj_aload_n 0 dX1_isTopLoose_0 rfl ?_
  refine sj_getR fdX1_54_0 hf dX1_isTopLoose_1 (fun v1 hf => ?_)
  refine sj_aload_n 0 dX1_isTopLoose_4 rfl ?_
  refine sj_iload_n 1 dX1_isTopLoose_5 rfl ?_
  obtain ⟨fs6, he6, hf⟩ := sd_isC_some hf
  refine sj_xI (rest := [.ref v1]) (fun _ _ _ e => sj_runV (n := 1) (As := [.int a1]) (rest := [.ref v1]) (sX1_stacked l hl G a0 a1 h _ _ _ e) he6 rfl rfl rfl rfl q2426 q2428 qs38 q116 q2429 (by decide +kernel) rfl rfl ⟨Nat.le_of_ble_eq_true rfl, Nat.le_of_ble_eq_true rfl⟩ rfl (Nat.le_of_ble_eq_true rfl) dX1_isTopLoose_6) hf (fun e6 h c hf => ?_) (fun r2 h c hf => ?_)
  · exact sj_outX hf rfl (by intro x hx; cases hx)
  obtain ⟨fs9, he9, hf⟩ := sd_isC_some hf
  refine sj_cR (rest := []) (fun _ _ _ e => sj_runV (n := 1) (As := [.int r2]) (rest := []) (sX3_top l G v1 r2 h _ _ _ e) he9 rfl rfl rfl rfl q2297 q2240 q2241 q118 q2242 (by decide +kernel) rfl rfl ⟨Nat.le_of_ble_eq_true rfl, Nat.le_of_ble_eq_true rfl⟩ rfl (Nat.le_of_ble_eq_true rfl) dX1_isTopLoose_9) hf (fun r3 h c hf => ?_)
  refine sj_getI fdX1_161_3 hf dX1_isTopLoose_12 (fun v4 hf => ?_)
  exact sj_zretX hf rfl rfl dX1_isTopLoose_15
/-! SofaDig.hasTopSpring(I)Z -/
abbrev cX1_hasTopSpring : ByteArray := prog_1_method_29_code
def yX1_hasTopSpring : MethodName := ⟨RX1, "hasTopSpring", "(I)Z"⟩
def dkwX1_hasTopSpring_0 : List UInt8 := [42, 180, 0, 54, 42, 27, 182, 0, 149, 182, 0, 152, 180, 0, 165, 172]
abbrev dktX1_hasTopSpring_0 : List UInt8 := dkwX1_hasTopSpring_0 ++ []
theorem dksX1_hasTopSpring_0 : cX1_hasTopSpring.data.toList.drop 0 = dktX1_hasTopSpring_0 := by decide +kernel
theorem dX1_hasTopSpring_0 : decode cX1_hasTopSpring 0 = .ok (.aload_n 0, 1) := dk_42 (dk_at dksX1_hasTopSpring_0 0 rfl rfl)
theorem dX1_hasTopSpring_1 : decode cX1_hasTopSpring 1 = .ok (.getfield 54, 3) := dk_180 0 54 (dk_at dksX1_hasTopSpring_0 1 rfl rfl)
theorem dX1_hasTopSpring_4 : decode cX1_hasTopSpring 4 = .ok (.aload_n 0, 1) := dk_42 (dk_at dksX1_hasTopSpring_0 4 rfl rfl)
theorem dX1_hasTopSpring_5 : decode cX1_hasTopSpring 5 = .ok (.iload_n 1, 1) := dk_27 (dk_at dksX1_hasTopSpring_0 5 rfl rfl)
theorem dX1_hasTopSpring_6 : decode cX1_hasTopSpring 6 = .ok (.invokevirtual 149, 3) := dk_182 0 149 (dk_at dksX1_hasTopSpring_0 6 rfl rfl)
theorem dX1_hasTopSpring_9 : decode cX1_hasTopSpring 9 = .ok (.invokevirtual 152, 3) := dk_182 0 152 (dk_at dksX1_hasTopSpring_0 9 rfl rfl)
theorem dX1_hasTopSpring_12 : decode cX1_hasTopSpring 12 = .ok (.getfield 165, 3) := dk_180 0 165 (dk_at dksX1_hasTopSpring_0 12 rfl rfl)
theorem dX1_hasTopSpring_15 : decode cX1_hasTopSpring 15 = .ok (.ireturn, 1) := dk_172 (dk_at dksX1_hasTopSpring_0 15 rfl rfl)
theorem fdX1_165_3 : sd_Fd "SofaDig" 165 3 2 := ⟨(RX4, TX4, 4), "SofaDig$Cushion", rfl, by decide, rfl, in_X4, Or.inl rfl, Or.inr ⟨_, q324⟩⟩
abbrev mX1_hasTopSpring : sd_Y := (yX1_hasTopSpring, cX1_hasTopSpring, 2, some (.boolean), none)
def fX1_hasTopSpring (G : sd_G) (a0 : Nat) (a1 : Int32) : sd_M (Int32 ⊕ Nat) :=
  sd_bnd (sd_getR G 0 2 a0) fun v1 =>
  sd_bnd (sd_isC G 0 a0) fun _ =>
  sd_bx (fX1_stacked G a0 a1) (fun e6 =>
    sd_ret (.inr e6)) fun r2 =>
  sd_bnd (sd_isC G 2 v1) fun _ =>
  sd_bnd (fX3_top G v1 r2) fun r3 =>
  sd_bnd (sd_getI G 3 2 r3) fun v4 =>
  sd_retNX .boolean v4
set_option maxHeartbeats 4000000 in
theorem sX1_hasTopSpring (l : Launch) (hl : l.stackTraces = false) (G : sd_G) (a0 : Nat) (a1 : Int32) (h : sd_H) (ρ : Int32 ⊕ Nat) (cT : Nat × Nat) (h2 : sd_H) (hf : fX1_hasTopSpring G a0 a1 h = some (ρ, cT, h2)) : sd_Met mX1_hasTopSpring ((l, G), (8, 123), [.ref a0, .int a1], ((sd_ox sd_oI) ρ, h2), cT) h := by
  refine sd_entry (plainFor_of_name rfl) rfl (Nat.le_of_ble_eq_true rfl) ?_
  show sd_J mX1_hasTopSpring ((l, G), (8, 123), [.ref a0, .int a1], ((sd_ox sd_oI) ρ, h2), cT) 0 [(0, .ref a0), (1, .int a1)] [] h cT
  unfold fX1_hasTopSpring at hf
  refine sj_aload_n 0 dX1_hasTopSpring_0 rfl ?_
  refine sj_getR fdX1_54_0 hf dX1_hasTopSpring_1 (fun v1 hf => ?_)
  refine sj_aload_n 0 dX1_hasTopSpring_4 rfl ?_
  refine sj_iload_n 1 dX1_hasTopSpring_5 rfl ?_
  obtain ⟨fs6, he6, hf⟩ := sd_isC_some hf
  refine sj_xI (rest := [.ref v1]) (fun _ _ _ e => sj_runV (n := 1) (As := [.int a1]) (rest := [.ref v1]) (sX1_stacked l hl G a0 a1 h _ _ _ e) he6 rfl rfl rfl rfl q2426 q2428 qs38 q116 q2429 (by decide +kernel) rfl rfl ⟨Nat.le_of_ble_eq_true rfl, Nat.le_of_ble_eq_true rfl⟩ rfl (Nat.le_of_ble_eq_true rfl) dX1_hasTopSpring_6) hf (fun e6 h c hf => ?_) (fun r2 h c hf => ?_)
  · exact sj_outX hf rfl (by intro x hx; cases hx)
  obtain ⟨fs9, he9, hf⟩ := sd_isC_some hf
  refine sj_cR (rest := []) (fun _ _ _ e => sj_runV (n := 1) (As := [.int r2]) (rest := []) (sX3_top l G v1 r2 h _ _ _ e) he9 rfl rfl rfl rfl q2297 q2240 q2241 q118 q2242 (by decide +kernel) rfl rfl ⟨Nat.le_of_ble_eq_true rfl, Nat.le_of_ble_eq_true rfl⟩ rfl (Nat.le_of_ble_eq_true rfl) dX1_hasTopSpring_9) hf (fun r3 h c hf => ?_)
  refine sj_getI fdX1_165_3 hf dX1_hasTopSpring_12 (fun v4 hf => ?_)
  exact sj_zretX hf rfl rfl dX1_hasTopSpring_15
/-! SofaDig.findsLeft(I)I -/
abbrev cX1_findsLeft : ByteArray := prog_1_method_30_code
def yX1_findsLeft : MethodName := ⟨RX1, "findsLeft", "(I)I"⟩
def dkwX1_findsLeft_0 : List UInt8 := [42, 180, 0, 54, 42, 27, 182, 0, 142, 182, 0, 168, 172]
abbrev dktX1_findsLeft_0 : List UInt8 := dkwX1_findsLeft_0 ++ []
theorem dksX1_findsLeft_0 : cX1_findsLeft.data.toList.drop 0 = dktX1_findsLeft_0 := by decide +kernel
theorem dX1_findsLeft_0 : decode cX1_findsLeft 0 = .ok (.aload_n 0, 1) := dk_42 (dk_at dksX1_findsLeft_0 0 rfl rfl)
theorem dX1_findsLeft_1 : decode cX1_findsLeft 1 = .ok (.getfield 54, 3) := dk_180 0 54 (dk_at dksX1_findsLeft_0 1 rfl rfl)
theorem dX1_findsLeft_4 : decode cX1_findsLeft 4 = .ok (.aload_n 0, 1) := dk_42 (dk_at dksX1_findsLeft_0 4 rfl rfl)
theorem dX1_findsLeft_5 : decode cX1_findsLeft 5 = .ok (.iload_n 1, 1) := dk_27 (dk_at dksX1_findsLeft_0 5 rfl rfl)
theorem dX1_findsLeft_6 : decode cX1_findsLeft 6 = .ok (.invokevirtual 142, 3) := dk_182 0 142 (dk_at dksX1_findsLeft_0 6 rfl rfl)
theorem dX1_findsLeft_9 : decode cX1_findsLeft 9 = .ok (.invokevirtual 168, 3) := dk_182 0 168 (dk_at dksX1_findsLeft_0 9 rfl rfl)
theorem dX1_findsLeft_12 : decode cX1_findsLeft 12 = .ok (.ireturn, 1) := dk_172 (dk_at dksX1_findsLeft_0 12 rfl rfl)
abbrev mX1_findsLeft : sd_Y := (yX1_findsLeft, cX1_findsLeft, 2, some (.int), none)
def fX1_findsLeft (G : sd_G) (a0 : Nat) (a1 : Int32) : sd_M (Int32 ⊕ Nat) :=
  sd_bnd (sd_getR G 0 2 a0) fun v1 =>
  sd_bnd (sd_isC G 0 a0) fun _ =>
  sd_bx (fX1_seat G a0 a1) (fun e6 =>
    sd_ret (.inr e6)) fun r2 =>
  sd_bnd (sd_isC G 2 v1) fun _ =>
  sd_bnd (fX3_left G v1 r2) fun r3 =>
  sd_ret (.inl r3)
set_option maxHeartbeats 4000000 in
theorem sX1_findsLeft (l : Launch) (hl : l.stackTraces = false) (G : sd_G) (a0 : Nat) (a1 : Int32) (h : sd_H) (ρ : Int32 ⊕ Nat) (cT : Nat × Nat) (h2 : sd_H) (hf : fX1_findsLeft G a0 a1 h = some (ρ, cT, h2)) : sd_Met mX1_findsLeft ((l, G), (8, 123), [.ref a0, .int a1], ((sd_ox sd_oI) ρ, h2), cT) h := by
  refine sd_entry (plainFor_of_name rfl) rfl (Nat.le_of_ble_eq_true rfl) ?_
  show sd_J mX1_findsLeft ((l, G), (8, 123), [.ref a0, .int a1], ((sd_ox sd_oI) ρ, h2), cT) 0 [(0, .ref a0), (1, .int a1)] [] h cT
  unfold fX1_findsLeft at hf
  refine sj_aload_n 0 dX1_findsLeft_0 rfl ?_
  refine sj_getR fdX1_54_0 hf dX1_findsLeft_1 (fun v1 hf => ?_)
  refine sj_aload_n 0 dX1_findsLeft_4 rfl ?_
  refine sj_iload_n 1 dX1_findsLeft_5 rfl ?_
  obtain ⟨fs6, he6, hf⟩ := sd_isC_some hf
  refine sj_xI (rest := [.ref v1]) (fun _ _ _ e => sj_runV (n := 1) (As := [.int a1]) (rest := [.ref v1]) (sX1_seat l hl G a0 a1 h _ _ _ e) he6 rfl rfl rfl rfl q2390 q2392 qs37 q116 q2393 (by decide +kernel) rfl rfl ⟨Nat.le_of_ble_eq_true rfl, Nat.le_of_ble_eq_true rfl⟩ rfl (Nat.le_of_ble_eq_true rfl) dX1_findsLeft_6) hf (fun e6 h c hf => ?_) (fun r2 h c hf => ?_)
  · exact sj_outX hf rfl (by intro x hx; cases hx)
  obtain ⟨fs9, he9, hf⟩ := sd_isC_some hf
  refine sj_cI (rest := []) (fun _ _ _ e => sj_runV (n := 1) (As := [.int r2]) (rest := []) (sX3_left l G v1 r2 h _ _ _ e) he9 rfl rfl rfl rfl q2264 q2265 q2266 q118 q2267 (by decide +kernel) rfl rfl ⟨Nat.le_of_ble_eq_true rfl, Nat.le_of_ble_eq_true rfl⟩ rfl (Nat.le_of_ble_eq_true rfl) dX1_findsLeft_9) hf (fun r3 h c hf => ?_)
  exact sj_iret (o := (sd_ox sd_oI)) hf rfl rfl rfl dX1_findsLeft_12
/-! SofaDig.at(Ljava/util/List;I)Ljava/lang/Object; -/
abbrev cX1_at : ByteArray := prog_1_method_5_code
def yX1_at : MethodName := ⟨RX1, "at", "(Ljava/util/List;I)Ljava/lang/Object;"⟩
def dkwX1_at_0 : List UInt8 := [27, 42, 185, 0, 19, 1, 0, 184, 0, 25, 42, 27, 185, 0, 29, 2, 0, 176]
abbrev dktX1_at_0 : List UInt8 := dkwX1_at_0 ++ []
theorem dksX1_at_0 : cX1_at.data.toList.drop 0 = dktX1_at_0 := by decide +kernel
theorem dX1_at_0 : decode cX1_at 0 = .ok (.iload_n 1, 1) := dk_27 (dk_at dksX1_at_0 0 rfl rfl)
theorem dX1_at_1 : decode cX1_at 1 = .ok (.aload_n 0, 1) := dk_42 (dk_at dksX1_at_0 1 rfl rfl)
theorem dX1_at_2 : decode cX1_at 2 = .ok (.invokeinterface 19 1, 5) := by decide +kernel
theorem dX1_at_7 : decode cX1_at 7 = .ok (.invokestatic 25, 3) := dk_184 0 25 (dk_at dksX1_at_0 7 rfl rfl)
theorem dX1_at_10 : decode cX1_at 10 = .ok (.aload_n 0, 1) := dk_42 (dk_at dksX1_at_0 10 rfl rfl)
theorem dX1_at_11 : decode cX1_at 11 = .ok (.iload_n 1, 1) := dk_27 (dk_at dksX1_at_0 11 rfl rfl)
theorem dX1_at_12 : decode cX1_at 12 = .ok (.invokeinterface 29 2, 5) := by decide +kernel
theorem dX1_at_17 : decode cX1_at 17 = .ok (.areturn, 1) := dk_176 (dk_at dksX1_at_0 17 rfl rfl)
abbrev mX1_at : sd_Y := (yX1_at, cX1_at, 2, some (.object "java/lang/Object"), none)
def fX1_at (G : sd_G) (a1 : Nat) (a2 : Int32) : sd_M (Nat ⊕ Nat) :=
  sd_bnd (sd_isC G 41 a1) fun _ =>
  sd_bnd (fJ2_size G a1) fun r1 =>
  sd_bx (fX1_requireIndex G a2 r1) (fun e7 =>
    sd_ret (.inr e7)) fun _ =>
  sd_bnd (sd_isC G 41 a1) fun _ =>
  sd_bnd (fJ2_get G a1 a2) fun r2 =>
  sd_ret (.inl r2)
set_option maxHeartbeats 4000000 in
theorem sX1_at (l : Launch) (hl : l.stackTraces = false) (G : sd_G) (a1 : Nat) (a2 : Int32) (h : sd_H) (ρ : Nat ⊕ Nat) (cT : Nat × Nat) (h2 : sd_H) (hf : fX1_at G a1 a2 h = some (ρ, cT, h2)) : sd_Met mX1_at ((l, G), (7, 102), [.ref a1, .int a2], ((sd_ox sd_oR) ρ, h2), cT) h := by
  refine sd_entry (plainFor_of_name rfl) rfl (Nat.le_of_ble_eq_true rfl) ?_
  show sd_J mX1_at ((l, G), (7, 102), [.ref a1, .int a2], ((sd_ox sd_oR) ρ, h2), cT) 0 [(0, .ref a1), (1, .int a2)] [] h cT
  unfold fX1_at at hf
  refine sj_iload_n 1 dX1_at_0 rfl ?_
  refine sj_aload_n 0 dX1_at_1 rfl ?_
  obtain ⟨fs2, he2, hf⟩ := sd_isC_some hf
  refine sj_cI (rest := [.int a2]) (fun _ _ _ e => sj_runF (n := 0) 7 (As := []) (rest := [.int a2]) (sJ2_size l G a1 h _ _ _ e) he2 rfl rfl rfl rfl rfl q2466 q2469 q490 q121 q492 (by decide +kernel) rfl rfl (fun _ z => by cases z) ⟨Nat.le_of_ble_eq_true rfl, Nat.le_of_ble_eq_true rfl⟩ rfl (Nat.le_of_ble_eq_true rfl) dX1_at_2) hf (fun r1 h c hf => ?_)
  refine sj_xV (rest := []) (fun _ _ _ e => sj_runS (n := 2) (rest := []) (sX1_requireIndex l hl G a2 r1 h _ _ _ e) rfl rfl q2394 q2395 q116 q2396 (by decide +kernel) rfl ⟨Nat.le_of_ble_eq_true rfl, Nat.le_of_ble_eq_true rfl⟩ rfl (Nat.le_of_ble_eq_true rfl) dX1_at_7) hf (fun e7 h c hf => ?_) (fun h c hf => ?_)
  · exact sj_outX hf rfl (by intro x hx; cases hx)
  refine sj_aload_n 0 dX1_at_10 rfl ?_
  refine sj_iload_n 1 dX1_at_11 rfl ?_
  obtain ⟨fs12, he12, hf⟩ := sd_isC_some hf
  refine sj_cR (rest := []) (fun _ _ _ e => sj_runF (n := 1) 6 (As := [.int a2]) (rest := []) (sJ2_get l G a1 a2 h _ _ _ e) he12 rfl rfl rfl rfl rfl q2473 q1000 q1002 q121 q1004 (by decide +kernel) rfl rfl (fun _ z => by cases z) ⟨Nat.le_of_ble_eq_true rfl, Nat.le_of_ble_eq_true rfl⟩ rfl (Nat.le_of_ble_eq_true rfl) dX1_at_12) hf (fun r2 h c hf => ?_)
  exact sj_aret (o := (sd_ox sd_oR)) hf rfl rfl rfl (Or.inl ⟨_, rfl⟩) dX1_at_17
/-! SofaDig.find(I)LSofaDig$Find; -/
abbrev cX1_find : ByteArray := prog_1_method_14_code
def yX1_find : MethodName := ⟨RX1, "find", "(I)LSofaDig$Find;"⟩
def dkwX1_find_0 : List UInt8 := [42, 180, 0, 54, 180, 0, 109, 27, 184, 0, 113, 192, 0, 116, 176]
abbrev dktX1_find_0 : List UInt8 := dkwX1_find_0 ++ []
theorem dksX1_find_0 : cX1_find.data.toList.drop 0 = dktX1_find_0 := by decide +kernel
theorem dX1_find_0 : decode cX1_find 0 = .ok (.aload_n 0, 1) := dk_42 (dk_at dksX1_find_0 0 rfl rfl)
theorem dX1_find_1 : decode cX1_find 1 = .ok (.getfield 54, 3) := dk_180 0 54 (dk_at dksX1_find_0 1 rfl rfl)
theorem dX1_find_4 : decode cX1_find 4 = .ok (.getfield 109, 3) := dk_180 0 109 (dk_at dksX1_find_0 4 rfl rfl)
theorem dX1_find_7 : decode cX1_find 7 = .ok (.iload_n 1, 1) := dk_27 (dk_at dksX1_find_0 7 rfl rfl)
theorem dX1_find_8 : decode cX1_find 8 = .ok (.invokestatic 113, 3) := dk_184 0 113 (dk_at dksX1_find_0 8 rfl rfl)
theorem dX1_find_11 : decode cX1_find 11 = .ok (.checkcast 116, 3) := dk_192 0 116 (dk_at dksX1_find_0 11 rfl rfl)
theorem dX1_find_14 : decode cX1_find 14 = .ok (.areturn, 1) := dk_176 (dk_at dksX1_find_0 14 rfl rfl)
abbrev mX1_find : sd_Y := (yX1_find, cX1_find, 2, some (.object "SofaDig$Find"), none)
def fX1_find (G : sd_G) (a0 : Nat) (a1 : Int32) : sd_M (Nat ⊕ Nat) :=
  sd_bnd (sd_getR G 0 2 a0) fun v1 =>
  sd_bnd (sd_getR G 2 4 v1) fun v2 =>
  sd_bx (fX1_at G v2 a1) (fun e8 =>
    sd_ret (.inr e8)) fun r3 =>
  sd_bnd (sd_cast G [11] r3) fun _ =>
  sd_ret (.inl r3)
set_option maxHeartbeats 4000000 in
theorem sX1_find (l : Launch) (hl : l.stackTraces = false) (G : sd_G) (a0 : Nat) (a1 : Int32) (h : sd_H) (ρ : Nat ⊕ Nat) (cT : Nat × Nat) (h2 : sd_H) (hf : fX1_find G a0 a1 h = some (ρ, cT, h2)) : sd_Met mX1_find ((l, G), (8, 123), [.ref a0, .int a1], ((sd_ox sd_oR) ρ, h2), cT) h := by
  refine sd_entry (plainFor_of_name rfl) rfl (Nat.le_of_ble_eq_true rfl) ?_
  show sd_J mX1_find ((l, G), (8, 123), [.ref a0, .int a1], ((sd_ox sd_oR) ρ, h2), cT) 0 [(0, .ref a0), (1, .int a1)] [] h cT
  unfold fX1_find at hf
  refine sj_aload_n 0 dX1_find_0 rfl ?_
  refine sj_getR fdX1_54_0 hf dX1_find_1 (fun v1 hf => ?_)
  refine sj_getR fdX1_109_2 hf dX1_find_4 (fun v2 hf => ?_)
  refine sj_iload_n 1 dX1_find_7 rfl ?_
  refine sj_xR (rest := []) (fun _ _ _ e => sj_runS (n := 2) (rest := []) (sX1_at l hl G v2 a1 h _ _ _ e) rfl rfl q2462 q2463 q116 q2464 (by decide +kernel) rfl ⟨Nat.le_of_ble_eq_true rfl, Nat.le_of_ble_eq_true rfl⟩ rfl (Nat.le_of_ble_eq_true rfl) dX1_find_8) hf (fun e8 h c hf => ?_) (fun r3 h c hf => ?_)
  · exact sj_outX hf rfl (by intro x hx; cases hx)
  obtain ⟨ci11, fs11, he11, hm11, hf⟩ := sd_cast_some hf
  refine sj_cast he11 hm11 fc_SofaDig_Find q2474 dX1_find_11 ?_
  exact sj_aret (o := (sd_ox sd_oR)) hf rfl rfl rfl (Or.inl ⟨_, rfl⟩) dX1_find_14
/-! SofaDig.isCoin(I)Z -/
abbrev cX1_isCoin : ByteArray := prog_1_method_31_code
def yX1_isCoin : MethodName := ⟨RX1, "isCoin", "(I)Z"⟩
def dkwX1_isCoin_0 : List UInt8 := [42, 27, 182, 0, 171, 180, 0, 175, 172]
abbrev dktX1_isCoin_0 : List UInt8 := dkwX1_isCoin_0 ++ []
theorem dksX1_isCoin_0 : cX1_isCoin.data.toList.drop 0 = dktX1_isCoin_0 := by decide +kernel
theorem dX1_isCoin_0 : decode cX1_isCoin 0 = .ok (.aload_n 0, 1) := dk_42 (dk_at dksX1_isCoin_0 0 rfl rfl)
theorem dX1_isCoin_1 : decode cX1_isCoin 1 = .ok (.iload_n 1, 1) := dk_27 (dk_at dksX1_isCoin_0 1 rfl rfl)
theorem dX1_isCoin_2 : decode cX1_isCoin 2 = .ok (.invokevirtual 171, 3) := dk_182 0 171 (dk_at dksX1_isCoin_0 2 rfl rfl)
theorem dX1_isCoin_5 : decode cX1_isCoin 5 = .ok (.getfield 175, 3) := dk_180 0 175 (dk_at dksX1_isCoin_0 5 rfl rfl)
theorem dX1_isCoin_8 : decode cX1_isCoin 8 = .ok (.ireturn, 1) := dk_172 (dk_at dksX1_isCoin_0 8 rfl rfl)
theorem fdX1_175_11 : sd_Fd "SofaDig" 175 11 0 := ⟨(RX12, TX12, 3), "SofaDig$Find", rfl, by decide, rfl, in_X12, Or.inl rfl, Or.inr ⟨_, q1838⟩⟩
abbrev mX1_isCoin : sd_Y := (yX1_isCoin, cX1_isCoin, 2, some (.boolean), none)
def fX1_isCoin (G : sd_G) (a0 : Nat) (a1 : Int32) : sd_M (Int32 ⊕ Nat) :=
  sd_bnd (sd_isC G 0 a0) fun _ =>
  sd_bx (fX1_find G a0 a1) (fun e2 =>
    sd_ret (.inr e2)) fun r1 =>
  sd_bnd (sd_getI G 11 0 r1) fun v2 =>
  sd_retNX .boolean v2
set_option maxHeartbeats 4000000 in
theorem sX1_isCoin (l : Launch) (hl : l.stackTraces = false) (G : sd_G) (a0 : Nat) (a1 : Int32) (h : sd_H) (ρ : Int32 ⊕ Nat) (cT : Nat × Nat) (h2 : sd_H) (hf : fX1_isCoin G a0 a1 h = some (ρ, cT, h2)) : sd_Met mX1_isCoin ((l, G), (9, 144), [.ref a0, .int a1], ((sd_ox sd_oI) ρ, h2), cT) h := by
  refine sd_entry (plainFor_of_name rfl) rfl (Nat.le_of_ble_eq_true rfl) ?_
  show sd_J mX1_isCoin ((l, G), (9, 144), [.ref a0, .int a1], ((sd_ox sd_oI) ρ, h2), cT) 0 [(0, .ref a0), (1, .int a1)] [] h cT
  unfold fX1_isCoin at hf
  refine sj_aload_n 0 dX1_isCoin_0 rfl ?_
  refine sj_iload_n 1 dX1_isCoin_1 rfl ?_
  obtain ⟨fs2, he2, hf⟩ := sd_isC_some hf
  refine sj_xR (rest := []) (fun _ _ _ e => sj_runV (n := 1) (As := [.int a1]) (rest := []) (sX1_find l hl G a0 a1 h _ _ _ e) he2 rfl rfl rfl rfl q2458 q2460 qs39 q116 q2461 (by decide +kernel) rfl rfl ⟨Nat.le_of_ble_eq_true rfl, Nat.le_of_ble_eq_true rfl⟩ rfl (Nat.le_of_ble_eq_true rfl) dX1_isCoin_2) hf (fun e2 h c hf => ?_) (fun r1 h c hf => ?_)
  · exact sj_outX hf rfl (by intro x hx; cases hx)
  refine sj_getI fdX1_175_11 hf dX1_isCoin_5 (fun v2 hf => ?_)
  exact sj_zretX hf rfl rfl dX1_isCoin_8
/-! SofaDig.isFound(I)Z -/
abbrev cX1_isFound : ByteArray := prog_1_method_32_code
def yX1_isFound : MethodName := ⟨RX1, "isFound", "(I)Z"⟩
def dkwX1_isFound_1 : List UInt8 := [153, 0, 7, 4, 167, 0, 4, 3, 172]
abbrev dktX1_isFound_1 : List UInt8 := dkwX1_isFound_1 ++ []
def dkwX1_isFound_0 : List UInt8 := [27, 42, 180, 0, 54, 180, 0, 109, 182, 0, 118, 184, 0, 25, 42, 180, 0, 54, 180, 0, 178, 27, 46]
abbrev dktX1_isFound_0 : List UInt8 := dkwX1_isFound_0 ++ dktX1_isFound_1
theorem dksX1_isFound_0 : cX1_isFound.data.toList.drop 0 = dktX1_isFound_0 := by decide +kernel
theorem dksX1_isFound_1 : cX1_isFound.data.toList.drop 23 = dktX1_isFound_1 := dk_seg dksX1_isFound_0 23 rfl rfl
theorem dX1_isFound_0 : decode cX1_isFound 0 = .ok (.iload_n 1, 1) := dk_27 (dk_at dksX1_isFound_0 0 rfl rfl)
theorem dX1_isFound_1 : decode cX1_isFound 1 = .ok (.aload_n 0, 1) := dk_42 (dk_at dksX1_isFound_0 1 rfl rfl)
theorem dX1_isFound_2 : decode cX1_isFound 2 = .ok (.getfield 54, 3) := dk_180 0 54 (dk_at dksX1_isFound_0 2 rfl rfl)
theorem dX1_isFound_5 : decode cX1_isFound 5 = .ok (.getfield 109, 3) := dk_180 0 109 (dk_at dksX1_isFound_0 5 rfl rfl)
theorem dX1_isFound_8 : decode cX1_isFound 8 = .ok (.invokevirtual 118, 3) := dk_182 0 118 (dk_at dksX1_isFound_0 8 rfl rfl)
theorem dX1_isFound_11 : decode cX1_isFound 11 = .ok (.invokestatic 25, 3) := dk_184 0 25 (dk_at dksX1_isFound_0 11 rfl rfl)
theorem dX1_isFound_14 : decode cX1_isFound 14 = .ok (.aload_n 0, 1) := dk_42 (dk_at dksX1_isFound_0 14 rfl rfl)
theorem dX1_isFound_15 : decode cX1_isFound 15 = .ok (.getfield 54, 3) := dk_180 0 54 (dk_at dksX1_isFound_0 15 rfl rfl)
theorem dX1_isFound_18 : decode cX1_isFound 18 = .ok (.getfield 178, 3) := dk_180 0 178 (dk_at dksX1_isFound_0 18 rfl rfl)
theorem dX1_isFound_21 : decode cX1_isFound 21 = .ok (.iload_n 1, 1) := dk_27 (dk_at dksX1_isFound_0 21 rfl rfl)
theorem dX1_isFound_22 : decode cX1_isFound 22 = .ok (.iaload, 1) := dk_46 (dk_at dksX1_isFound_0 22 rfl rfl)
theorem dX1_isFound_23 : decode cX1_isFound 23 = .ok (.ifCond .eq 7, 3) := dk_153 0 7 (dk_at dksX1_isFound_1 0 rfl rfl)
theorem dX1_isFound_26 : decode cX1_isFound 26 = .ok (.iconst 1, 1) := dk_4 (dk_at dksX1_isFound_1 3 rfl rfl)
theorem dX1_isFound_27 : decode cX1_isFound 27 = .ok (.goto 4, 3) := dk_167 0 4 (dk_at dksX1_isFound_1 4 rfl rfl)
theorem dX1_isFound_30 : decode cX1_isFound 30 = .ok (.iconst 0, 1) := dk_3 (dk_at dksX1_isFound_1 7 rfl rfl)
theorem dX1_isFound_31 : decode cX1_isFound 31 = .ok (.ireturn, 1) := dk_172 (dk_at dksX1_isFound_1 8 rfl rfl)
abbrev mX1_isFound : sd_Y := (yX1_isFound, cX1_isFound, 2, some (.boolean), none)
def fX1_isFound (G : sd_G) (a0 : Nat) (a1 : Int32) : sd_M (Int32 ⊕ Nat) :=
  sd_bnd (sd_getR G 0 2 a0) fun v1 =>
  sd_bnd (sd_getR G 2 4 v1) fun v2 =>
  sd_bnd (sd_isC G 41 v2) fun _ =>
  sd_bnd (fJ2_size G v2) fun r3 =>
  sd_bx (fX1_requireIndex G a1 r3) (fun e11 =>
    sd_ret (.inr e11)) fun _ =>
  sd_bnd (sd_getR G 0 2 a0) fun v4 =>
  sd_bnd (sd_getR G 2 6 v4) fun v5 =>
  sd_bnd (sd_aldI G 0 v5 a1) fun v6 =>
  if v6 = 0 then (
    sd_ret (.inl 0))
  else (
    sd_ret (.inl 1))
set_option maxHeartbeats 4000000 in
theorem sX1_isFound (l : Launch) (hl : l.stackTraces = false) (G : sd_G) (a0 : Nat) (a1 : Int32) (h : sd_H) (ρ : Int32 ⊕ Nat) (cT : Nat × Nat) (h2 : sd_H) (hf : fX1_isFound G a0 a1 h = some (ρ, cT, h2)) : sd_Met mX1_isFound ((l, G), (7, 102), [.ref a0, .int a1], ((sd_ox sd_oI) ρ, h2), cT) h := by
  refine sd_entry (plainFor_of_name rfl) rfl (Nat.le_of_ble_eq_true rfl) ?_
  show sd_J mX1_isFound ((l, G), (7, 102), [.ref a0, .int a1], ((sd_ox sd_oI) ρ, h2), cT) 0 [(0, .ref a0), (1, .int a1)] [] h cT
  unfold fX1_isFound at hf
  refine sj_iload_n 1 dX1_isFound_0 rfl ?_
  refine sj_aload_n 0 dX1_isFound_1 rfl ?_
  refine sj_getR fdX1_54_0 hf dX1_isFound_2 (fun v1 hf => ?_)
  refine sj_getR fdX1_109_2 hf dX1_isFound_5 (fun v2 hf => ?_)
  obtain ⟨fs8, he8, hf⟩ := sd_isC_some hf
  refine sj_cI (rest := [.int a1]) (fun _ _ _ e => sj_runV (n := 0) (As := []) (rest := [.int a1]) (sJ2_size l G v2 h _ _ _ e) he8 rfl rfl rfl rfl q2104 q490 q491 q121 q492 (by decide +kernel) rfl rfl ⟨Nat.le_of_ble_eq_true rfl, Nat.le_of_ble_eq_true rfl⟩ rfl (Nat.le_of_ble_eq_true rfl) dX1_isFound_8) hf (fun r3 h c hf => ?_)
  refine sj_xV (rest := []) (fun _ _ _ e => sj_runS (n := 2) (rest := []) (sX1_requireIndex l hl G a1 r3 h _ _ _ e) rfl rfl q2394 q2395 q116 q2396 (by decide +kernel) rfl ⟨Nat.le_of_ble_eq_true rfl, Nat.le_of_ble_eq_true rfl⟩ rfl (Nat.le_of_ble_eq_true rfl) dX1_isFound_11) hf (fun e11 h c hf => ?_) (fun h c hf => ?_)
  · exact sj_outX hf rfl (by intro x hx; cases hx)
  refine sj_aload_n 0 dX1_isFound_14 rfl ?_
  refine sj_getR fdX1_54_0 hf dX1_isFound_15 (fun v4 hf => ?_)
  refine sj_getR fdX1_178_2 hf dX1_isFound_18 (fun v5 hf => ?_)
  refine sj_iload_n 1 dX1_isFound_21 rfl ?_
  refine sj_iald hf dX1_isFound_22 (fun v6 hf => ?_)
  refine sj_ifeq 30 hf dX1_isFound_23 (by decide) (fun g23 hf => ?_) (fun g23 hf => ?_)
  · refine sj_iconst (v := 0) dX1_isFound_30 (by decide) ?_
    exact sj_zretC (o := (sd_ox sd_oI)) (ty := .boolean) rfl hf rfl rfl rfl dX1_isFound_31
  · refine sj_iconst (v := 1) dX1_isFound_26 (by decide) ?_
    refine sj_goto 31 dX1_isFound_27 (by decide) ?_
    exact sj_zretC (o := (sd_ox sd_oI)) (ty := .boolean) rfl hf rfl rfl rfl dX1_isFound_31
/-! SofaDig.isSure(I)Z -/
abbrev cX1_isSure : ByteArray := prog_1_method_33_code
def yX1_isSure : MethodName := ⟨RX1, "isSure", "(I)Z"⟩
def dkwX1_isSure_1 : List UInt8 := [167, 0, 4, 3, 172]
abbrev dktX1_isSure_1 : List UInt8 := dkwX1_isSure_1 ++ []
def dkwX1_isSure_0 : List UInt8 := [42, 27, 182, 0, 182, 184, 0, 63, 42, 180, 0, 54, 180, 0, 178, 27, 46, 4, 160, 0, 7, 4]
abbrev dktX1_isSure_0 : List UInt8 := dkwX1_isSure_0 ++ dktX1_isSure_1
theorem dksX1_isSure_0 : cX1_isSure.data.toList.drop 0 = dktX1_isSure_0 := by decide +kernel
theorem dksX1_isSure_1 : cX1_isSure.data.toList.drop 22 = dktX1_isSure_1 := dk_seg dksX1_isSure_0 22 rfl rfl
theorem dX1_isSure_0 : decode cX1_isSure 0 = .ok (.aload_n 0, 1) := dk_42 (dk_at dksX1_isSure_0 0 rfl rfl)
theorem dX1_isSure_1 : decode cX1_isSure 1 = .ok (.iload_n 1, 1) := dk_27 (dk_at dksX1_isSure_0 1 rfl rfl)
theorem dX1_isSure_2 : decode cX1_isSure 2 = .ok (.invokevirtual 182, 3) := dk_182 0 182 (dk_at dksX1_isSure_0 2 rfl rfl)
theorem dX1_isSure_5 : decode cX1_isSure 5 = .ok (.invokestatic 63, 3) := dk_184 0 63 (dk_at dksX1_isSure_0 5 rfl rfl)
theorem dX1_isSure_8 : decode cX1_isSure 8 = .ok (.aload_n 0, 1) := dk_42 (dk_at dksX1_isSure_0 8 rfl rfl)
theorem dX1_isSure_9 : decode cX1_isSure 9 = .ok (.getfield 54, 3) := dk_180 0 54 (dk_at dksX1_isSure_0 9 rfl rfl)
theorem dX1_isSure_12 : decode cX1_isSure 12 = .ok (.getfield 178, 3) := dk_180 0 178 (dk_at dksX1_isSure_0 12 rfl rfl)
theorem dX1_isSure_15 : decode cX1_isSure 15 = .ok (.iload_n 1, 1) := dk_27 (dk_at dksX1_isSure_0 15 rfl rfl)
theorem dX1_isSure_16 : decode cX1_isSure 16 = .ok (.iaload, 1) := dk_46 (dk_at dksX1_isSure_0 16 rfl rfl)
theorem dX1_isSure_17 : decode cX1_isSure 17 = .ok (.iconst 1, 1) := dk_4 (dk_at dksX1_isSure_0 17 rfl rfl)
theorem dX1_isSure_18 : decode cX1_isSure 18 = .ok (.if_icmp .ne 7, 3) := dk_160 0 7 (dk_at dksX1_isSure_0 18 rfl rfl)
theorem dX1_isSure_21 : decode cX1_isSure 21 = .ok (.iconst 1, 1) := dk_4 (dk_at dksX1_isSure_0 21 rfl rfl)
theorem dX1_isSure_22 : decode cX1_isSure 22 = .ok (.goto 4, 3) := dk_167 0 4 (dk_at dksX1_isSure_1 0 rfl rfl)
theorem dX1_isSure_25 : decode cX1_isSure 25 = .ok (.iconst 0, 1) := dk_3 (dk_at dksX1_isSure_1 3 rfl rfl)
theorem dX1_isSure_26 : decode cX1_isSure 26 = .ok (.ireturn, 1) := dk_172 (dk_at dksX1_isSure_1 4 rfl rfl)
abbrev mX1_isSure : sd_Y := (yX1_isSure, cX1_isSure, 2, some (.boolean), none)
def fX1_isSure (G : sd_G) (a0 : Nat) (a1 : Int32) : sd_M (Int32 ⊕ Nat) :=
  sd_bnd (sd_isC G 0 a0) fun _ =>
  sd_bx (fX1_isFound G a0 a1) (fun e2 =>
    sd_ret (.inr e2)) fun r1 =>
  sd_bx (fX1_requireState G r1) (fun e5 =>
    sd_ret (.inr e5)) fun _ =>
  sd_bnd (sd_getR G 0 2 a0) fun v2 =>
  sd_bnd (sd_getR G 2 6 v2) fun v3 =>
  sd_bnd (sd_aldI G 0 v3 a1) fun v4 =>
  if v4 = 1 then (
    sd_ret (.inl 1))
  else (
    sd_ret (.inl 0))
set_option maxHeartbeats 4000000 in
theorem sX1_isSure (l : Launch) (hl : l.stackTraces = false) (G : sd_G) (a0 : Nat) (a1 : Int32) (h : sd_H) (ρ : Int32 ⊕ Nat) (cT : Nat × Nat) (h2 : sd_H) (hf : fX1_isSure G a0 a1 h = some (ρ, cT, h2)) : sd_Met mX1_isSure ((l, G), (8, 123), [.ref a0, .int a1], ((sd_ox sd_oI) ρ, h2), cT) h := by
  refine sd_entry (plainFor_of_name rfl) rfl (Nat.le_of_ble_eq_true rfl) ?_
  show sd_J mX1_isSure ((l, G), (8, 123), [.ref a0, .int a1], ((sd_ox sd_oI) ρ, h2), cT) 0 [(0, .ref a0), (1, .int a1)] [] h cT
  unfold fX1_isSure at hf
  refine sj_aload_n 0 dX1_isSure_0 rfl ?_
  refine sj_iload_n 1 dX1_isSure_1 rfl ?_
  obtain ⟨fs2, he2, hf⟩ := sd_isC_some hf
  refine sj_xI (rest := []) (fun _ _ _ e => sj_runV (n := 1) (As := [.int a1]) (rest := []) (sX1_isFound l hl G a0 a1 h _ _ _ e) he2 rfl rfl rfl rfl q2489 q2479 q2480 q116 q2481 (by decide +kernel) rfl rfl ⟨Nat.le_of_ble_eq_true rfl, Nat.le_of_ble_eq_true rfl⟩ rfl (Nat.le_of_ble_eq_true rfl) dX1_isSure_2) hf (fun e2 h c hf => ?_) (fun r1 h c hf => ?_)
  · exact sj_outX hf rfl (by intro x hx; cases hx)
  refine sj_xV (rest := []) (fun _ _ _ e => sj_runS (n := 1) (rest := []) (sX1_requireState l hl G r1 h _ _ _ e) rfl rfl q2320 q2321 q116 q2322 (by decide +kernel) rfl ⟨Nat.le_of_ble_eq_true rfl, Nat.le_of_ble_eq_true rfl⟩ rfl (Nat.le_of_ble_eq_true rfl) dX1_isSure_5) hf (fun e5 h c hf => ?_) (fun h c hf => ?_)
  · exact sj_outX hf rfl (by intro x hx; cases hx)
  refine sj_aload_n 0 dX1_isSure_8 rfl ?_
  refine sj_getR fdX1_54_0 hf dX1_isSure_9 (fun v2 hf => ?_)
  refine sj_getR fdX1_178_2 hf dX1_isSure_12 (fun v3 hf => ?_)
  refine sj_iload_n 1 dX1_isSure_15 rfl ?_
  refine sj_iald hf dX1_isSure_16 (fun v4 hf => ?_)
  refine sj_iconst (v := 1) dX1_isSure_17 (by decide) ?_
  refine sj_icne 25 hf dX1_isSure_18 (by decide) (fun g18 hf => ?_) (fun g18 hf => ?_)
  · refine sj_iconst (v := 0) dX1_isSure_25 (by decide) ?_
    exact sj_zretC (o := (sd_ox sd_oI)) (ty := .boolean) rfl hf rfl rfl rfl dX1_isSure_26
  · refine sj_iconst (v := 1) dX1_isSure_21 (by decide) ?_
    refine sj_goto 26 dX1_isSure_22 (by decide) ?_
    exact sj_zretC (o := (sd_ox sd_oI)) (ty := .boolean) rfl hf rfl rfl rfl dX1_isSure_26
/-! SofaDig.stratumOf(I)I -/
abbrev cX1_stratumOf : ByteArray := prog_1_method_34_code
def yX1_stratumOf : MethodName := ⟨RX1, "stratumOf", "(I)I"⟩
def dkwX1_stratumOf_0 : List UInt8 := [42, 27, 182, 0, 171, 180, 0, 185, 172]
abbrev dktX1_stratumOf_0 : List UInt8 := dkwX1_stratumOf_0 ++ []
theorem dksX1_stratumOf_0 : cX1_stratumOf.data.toList.drop 0 = dktX1_stratumOf_0 := by decide +kernel
theorem dX1_stratumOf_0 : decode cX1_stratumOf 0 = .ok (.aload_n 0, 1) := dk_42 (dk_at dksX1_stratumOf_0 0 rfl rfl)
theorem dX1_stratumOf_1 : decode cX1_stratumOf 1 = .ok (.iload_n 1, 1) := dk_27 (dk_at dksX1_stratumOf_0 1 rfl rfl)
theorem dX1_stratumOf_2 : decode cX1_stratumOf 2 = .ok (.invokevirtual 171, 3) := dk_182 0 171 (dk_at dksX1_stratumOf_0 2 rfl rfl)
theorem dX1_stratumOf_5 : decode cX1_stratumOf 5 = .ok (.getfield 185, 3) := dk_180 0 185 (dk_at dksX1_stratumOf_0 5 rfl rfl)
theorem dX1_stratumOf_8 : decode cX1_stratumOf 8 = .ok (.ireturn, 1) := dk_172 (dk_at dksX1_stratumOf_0 8 rfl rfl)
theorem fdX1_185_11 : sd_Fd "SofaDig" 185 11 2 := ⟨(RX12, TX12, 3), "SofaDig$Find", rfl, by decide, rfl, in_X12, Or.inl rfl, Or.inr ⟨_, q1844⟩⟩
abbrev mX1_stratumOf : sd_Y := (yX1_stratumOf, cX1_stratumOf, 2, some (.int), none)
def fX1_stratumOf (G : sd_G) (a0 : Nat) (a1 : Int32) : sd_M (Int32 ⊕ Nat) :=
  sd_bnd (sd_isC G 0 a0) fun _ =>
  sd_bx (fX1_find G a0 a1) (fun e2 =>
    sd_ret (.inr e2)) fun r1 =>
  sd_bnd (sd_getI G 11 2 r1) fun v2 =>
  sd_ret (.inl v2)
set_option maxHeartbeats 4000000 in
theorem sX1_stratumOf (l : Launch) (hl : l.stackTraces = false) (G : sd_G) (a0 : Nat) (a1 : Int32) (h : sd_H) (ρ : Int32 ⊕ Nat) (cT : Nat × Nat) (h2 : sd_H) (hf : fX1_stratumOf G a0 a1 h = some (ρ, cT, h2)) : sd_Met mX1_stratumOf ((l, G), (9, 144), [.ref a0, .int a1], ((sd_ox sd_oI) ρ, h2), cT) h := by
  refine sd_entry (plainFor_of_name rfl) rfl (Nat.le_of_ble_eq_true rfl) ?_
  show sd_J mX1_stratumOf ((l, G), (9, 144), [.ref a0, .int a1], ((sd_ox sd_oI) ρ, h2), cT) 0 [(0, .ref a0), (1, .int a1)] [] h cT
  unfold fX1_stratumOf at hf
  refine sj_aload_n 0 dX1_stratumOf_0 rfl ?_
  refine sj_iload_n 1 dX1_stratumOf_1 rfl ?_
  obtain ⟨fs2, he2, hf⟩ := sd_isC_some hf
  refine sj_xR (rest := []) (fun _ _ _ e => sj_runV (n := 1) (As := [.int a1]) (rest := []) (sX1_find l hl G a0 a1 h _ _ _ e) he2 rfl rfl rfl rfl q2458 q2460 qs39 q116 q2461 (by decide +kernel) rfl rfl ⟨Nat.le_of_ble_eq_true rfl, Nat.le_of_ble_eq_true rfl⟩ rfl (Nat.le_of_ble_eq_true rfl) dX1_stratumOf_2) hf (fun e2 h c hf => ?_) (fun r1 h c hf => ?_)
  · exact sj_outX hf rfl (by intro x hx; cases hx)
  refine sj_getI fdX1_185_11 hf dX1_stratumOf_5 (fun v2 hf => ?_)
  exact sj_iret (o := (sd_ox sd_oI)) hf rfl rfl rfl dX1_stratumOf_8
/-! SofaDig.yearOf(I)I -/
abbrev cX1_yearOf : ByteArray := prog_1_method_35_code
def yX1_yearOf : MethodName := ⟨RX1, "yearOf", "(I)I"⟩
def dkwX1_yearOf_0 : List UInt8 := [42, 27, 182, 0, 171, 180, 0, 175, 184, 0, 63, 42, 27, 182, 0, 171, 180, 0, 186, 172]
abbrev dktX1_yearOf_0 : List UInt8 := dkwX1_yearOf_0 ++ []
theorem dksX1_yearOf_0 : cX1_yearOf.data.toList.drop 0 = dktX1_yearOf_0 := by decide +kernel
theorem dX1_yearOf_0 : decode cX1_yearOf 0 = .ok (.aload_n 0, 1) := dk_42 (dk_at dksX1_yearOf_0 0 rfl rfl)
theorem dX1_yearOf_1 : decode cX1_yearOf 1 = .ok (.iload_n 1, 1) := dk_27 (dk_at dksX1_yearOf_0 1 rfl rfl)
theorem dX1_yearOf_2 : decode cX1_yearOf 2 = .ok (.invokevirtual 171, 3) := dk_182 0 171 (dk_at dksX1_yearOf_0 2 rfl rfl)
theorem dX1_yearOf_5 : decode cX1_yearOf 5 = .ok (.getfield 175, 3) := dk_180 0 175 (dk_at dksX1_yearOf_0 5 rfl rfl)
theorem dX1_yearOf_8 : decode cX1_yearOf 8 = .ok (.invokestatic 63, 3) := dk_184 0 63 (dk_at dksX1_yearOf_0 8 rfl rfl)
theorem dX1_yearOf_11 : decode cX1_yearOf 11 = .ok (.aload_n 0, 1) := dk_42 (dk_at dksX1_yearOf_0 11 rfl rfl)
theorem dX1_yearOf_12 : decode cX1_yearOf 12 = .ok (.iload_n 1, 1) := dk_27 (dk_at dksX1_yearOf_0 12 rfl rfl)
theorem dX1_yearOf_13 : decode cX1_yearOf 13 = .ok (.invokevirtual 171, 3) := dk_182 0 171 (dk_at dksX1_yearOf_0 13 rfl rfl)
theorem dX1_yearOf_16 : decode cX1_yearOf 16 = .ok (.getfield 186, 3) := dk_180 0 186 (dk_at dksX1_yearOf_0 16 rfl rfl)
theorem dX1_yearOf_19 : decode cX1_yearOf 19 = .ok (.ireturn, 1) := dk_172 (dk_at dksX1_yearOf_0 19 rfl rfl)
theorem fdX1_186_11 : sd_Fd "SofaDig" 186 11 1 := ⟨(RX12, TX12, 3), "SofaDig$Find", rfl, by decide, rfl, in_X12, Or.inl rfl, Or.inr ⟨_, q1841⟩⟩
abbrev mX1_yearOf : sd_Y := (yX1_yearOf, cX1_yearOf, 2, some (.int), none)
def fX1_yearOf (G : sd_G) (a0 : Nat) (a1 : Int32) : sd_M (Int32 ⊕ Nat) :=
  sd_bnd (sd_isC G 0 a0) fun _ =>
  sd_bx (fX1_find G a0 a1) (fun e2 =>
    sd_ret (.inr e2)) fun r1 =>
  sd_bnd (sd_getI G 11 0 r1) fun v2 =>
  sd_bx (fX1_requireState G v2) (fun e8 =>
    sd_ret (.inr e8)) fun _ =>
  sd_bnd (sd_isC G 0 a0) fun _ =>
  sd_bx (fX1_find G a0 a1) (fun e13 =>
    sd_ret (.inr e13)) fun r3 =>
  sd_bnd (sd_getI G 11 1 r3) fun v4 =>
  sd_ret (.inl v4)
set_option maxHeartbeats 4000000 in
theorem sX1_yearOf (l : Launch) (hl : l.stackTraces = false) (G : sd_G) (a0 : Nat) (a1 : Int32) (h : sd_H) (ρ : Int32 ⊕ Nat) (cT : Nat × Nat) (h2 : sd_H) (hf : fX1_yearOf G a0 a1 h = some (ρ, cT, h2)) : sd_Met mX1_yearOf ((l, G), (9, 144), [.ref a0, .int a1], ((sd_ox sd_oI) ρ, h2), cT) h := by
  refine sd_entry (plainFor_of_name rfl) rfl (Nat.le_of_ble_eq_true rfl) ?_
  show sd_J mX1_yearOf ((l, G), (9, 144), [.ref a0, .int a1], ((sd_ox sd_oI) ρ, h2), cT) 0 [(0, .ref a0), (1, .int a1)] [] h cT
  unfold fX1_yearOf at hf
  refine sj_aload_n 0 dX1_yearOf_0 rfl ?_
  refine sj_iload_n 1 dX1_yearOf_1 rfl ?_
  obtain ⟨fs2, he2, hf⟩ := sd_isC_some hf
  refine sj_xR (rest := []) (fun _ _ _ e => sj_runV (n := 1) (As := [.int a1]) (rest := []) (sX1_find l hl G a0 a1 h _ _ _ e) he2 rfl rfl rfl rfl q2458 q2460 qs39 q116 q2461 (by decide +kernel) rfl rfl ⟨Nat.le_of_ble_eq_true rfl, Nat.le_of_ble_eq_true rfl⟩ rfl (Nat.le_of_ble_eq_true rfl) dX1_yearOf_2) hf (fun e2 h c hf => ?_) (fun r1 h c hf => ?_)
  · exact sj_outX hf rfl (by intro x hx; cases hx)
  refine sj_getI fdX1_175_11 hf dX1_yearOf_5 (fun v2 hf => ?_)
  refine sj_xV (rest := []) (fun _ _ _ e => sj_runS (n := 1) (rest := []) (sX1_requireState l hl G v2 h _ _ _ e) rfl rfl q2320 q2321 q116 q2322 (by decide +kernel) rfl ⟨Nat.le_of_ble_eq_true rfl, Nat.le_of_ble_eq_true rfl⟩ rfl (Nat.le_of_ble_eq_true rfl) dX1_yearOf_8) hf (fun e8 h c hf => ?_) (fun h c hf => ?_)
  · exact sj_outX hf rfl (by intro x hx; cases hx)
  refine sj_aload_n 0 dX1_yearOf_11 rfl ?_
  refine sj_iload_n 1 dX1_yearOf_12 rfl ?_
  obtain ⟨fs13, he13, hf⟩ := sd_isC_some hf
  refine sj_xR (rest := []) (fun _ _ _ e => sj_runV (n := 1) (As := [.int a1]) (rest := []) (sX1_find l hl G a0 a1 h _ _ _ e) he13 rfl rfl rfl rfl q2458 q2460 qs39 q116 q2461 (by decide +kernel) rfl rfl ⟨Nat.le_of_ble_eq_true rfl, Nat.le_of_ble_eq_true rfl⟩ rfl (Nat.le_of_ble_eq_true rfl) dX1_yearOf_13) hf (fun e13 h c hf => ?_) (fun r3 h c hf => ?_)
  · exact sj_outX hf rfl (by intro x hx; cases hx)
  refine sj_getI fdX1_186_11 hf dX1_yearOf_16 (fun v4 hf => ?_)
  exact sj_iret (o := (sd_ox sd_oI)) hf rfl rfl rfl dX1_yearOf_19
/-! SofaDig.empireOf(I)I -/
abbrev cX1_empireOf : ByteArray := prog_1_method_36_code
def yX1_empireOf : MethodName := ⟨RX1, "empireOf", "(I)I"⟩
def dkwX1_empireOf_1 : List UInt8 := [180, 0, 186, 172]
abbrev dktX1_empireOf_1 : List UInt8 := dkwX1_empireOf_1 ++ []
def dkwX1_empireOf_0 : List UInt8 := [42, 27, 182, 0, 171, 180, 0, 175, 154, 0, 7, 4, 167, 0, 4, 3, 184, 0, 63, 42, 27, 182, 0, 171]
abbrev dktX1_empireOf_0 : List UInt8 := dkwX1_empireOf_0 ++ dktX1_empireOf_1
theorem dksX1_empireOf_0 : cX1_empireOf.data.toList.drop 0 = dktX1_empireOf_0 := by decide +kernel
theorem dksX1_empireOf_1 : cX1_empireOf.data.toList.drop 24 = dktX1_empireOf_1 := dk_seg dksX1_empireOf_0 24 rfl rfl
theorem dX1_empireOf_0 : decode cX1_empireOf 0 = .ok (.aload_n 0, 1) := dk_42 (dk_at dksX1_empireOf_0 0 rfl rfl)
theorem dX1_empireOf_1 : decode cX1_empireOf 1 = .ok (.iload_n 1, 1) := dk_27 (dk_at dksX1_empireOf_0 1 rfl rfl)
theorem dX1_empireOf_2 : decode cX1_empireOf 2 = .ok (.invokevirtual 171, 3) := dk_182 0 171 (dk_at dksX1_empireOf_0 2 rfl rfl)
theorem dX1_empireOf_5 : decode cX1_empireOf 5 = .ok (.getfield 175, 3) := dk_180 0 175 (dk_at dksX1_empireOf_0 5 rfl rfl)
theorem dX1_empireOf_8 : decode cX1_empireOf 8 = .ok (.ifCond .ne 7, 3) := dk_154 0 7 (dk_at dksX1_empireOf_0 8 rfl rfl)
theorem dX1_empireOf_11 : decode cX1_empireOf 11 = .ok (.iconst 1, 1) := dk_4 (dk_at dksX1_empireOf_0 11 rfl rfl)
theorem dX1_empireOf_12 : decode cX1_empireOf 12 = .ok (.goto 4, 3) := dk_167 0 4 (dk_at dksX1_empireOf_0 12 rfl rfl)
theorem dX1_empireOf_15 : decode cX1_empireOf 15 = .ok (.iconst 0, 1) := dk_3 (dk_at dksX1_empireOf_0 15 rfl rfl)
theorem dX1_empireOf_16 : decode cX1_empireOf 16 = .ok (.invokestatic 63, 3) := dk_184 0 63 (dk_at dksX1_empireOf_0 16 rfl rfl)
theorem dX1_empireOf_19 : decode cX1_empireOf 19 = .ok (.aload_n 0, 1) := dk_42 (dk_at dksX1_empireOf_0 19 rfl rfl)
theorem dX1_empireOf_20 : decode cX1_empireOf 20 = .ok (.iload_n 1, 1) := dk_27 (dk_at dksX1_empireOf_0 20 rfl rfl)
theorem dX1_empireOf_21 : decode cX1_empireOf 21 = .ok (.invokevirtual 171, 3) := dk_182 0 171 (dk_at dksX1_empireOf_0 21 rfl rfl)
theorem dX1_empireOf_24 : decode cX1_empireOf 24 = .ok (.getfield 186, 3) := dk_180 0 186 (dk_at dksX1_empireOf_1 0 rfl rfl)
theorem dX1_empireOf_27 : decode cX1_empireOf 27 = .ok (.ireturn, 1) := dk_172 (dk_at dksX1_empireOf_1 3 rfl rfl)
abbrev mX1_empireOf : sd_Y := (yX1_empireOf, cX1_empireOf, 2, some (.int), none)
def fX1_empireOf_b16 (G : sd_G) (w0 : Nat) (w1 : Int32) (y0 : Int32) : sd_M (Int32 ⊕ Nat) :=
  sd_bx (fX1_requireState G y0) (fun e16 =>
    sd_ret (.inr e16)) fun _ =>
  sd_bnd (sd_isC G 0 w0) fun _ =>
  sd_bx (fX1_find G w0 w1) (fun e21 =>
    sd_ret (.inr e21)) fun r3 =>
  sd_bnd (sd_getI G 11 1 r3) fun v4 =>
  sd_ret (.inl v4)
set_option maxHeartbeats 4000000 in
theorem sX1_empireOf_b16 (l : Launch) (hl : l.stackTraces = false) (G : sd_G) (a0 : Nat) (a1 : Int32) (ρ : Int32 ⊕ Nat) (h2 : sd_H) (cT : Nat × Nat) (w0 : Nat) (w1 : Int32) (y0 : Int32) (h : sd_H) (c : Nat × Nat) (hf : fX1_empireOf_b16 G w0 w1 y0 h = some (ρ, c, h2)) : sd_J mX1_empireOf ((l, G), (9, 144), [.ref a0, .int a1], ((sd_ox sd_oI) ρ, h2), cT) 16 [(0, .ref w0), (1, .int w1)] [.int y0] h c := by
  unfold fX1_empireOf_b16 at hf
  refine sj_xV (rest := []) (fun _ _ _ e => sj_runS (n := 1) (rest := []) (sX1_requireState l hl G y0 h _ _ _ e) rfl rfl q2320 q2321 q116 q2322 (by decide +kernel) rfl ⟨Nat.le_of_ble_eq_true rfl, Nat.le_of_ble_eq_true rfl⟩ rfl (Nat.le_of_ble_eq_true rfl) dX1_empireOf_16) hf (fun e16 h c hf => ?_) (fun h c hf => ?_)
  · exact sj_outX hf rfl (by intro x hx; cases hx)
  refine sj_aload_n 0 dX1_empireOf_19 rfl ?_
  refine sj_iload_n 1 dX1_empireOf_20 rfl ?_
  obtain ⟨fs21, he21, hf⟩ := sd_isC_some hf
  refine sj_xR (rest := []) (fun _ _ _ e => sj_runV (n := 1) (As := [.int w1]) (rest := []) (sX1_find l hl G w0 w1 h _ _ _ e) he21 rfl rfl rfl rfl q2458 q2460 qs39 q116 q2461 (by decide +kernel) rfl rfl ⟨Nat.le_of_ble_eq_true rfl, Nat.le_of_ble_eq_true rfl⟩ rfl (Nat.le_of_ble_eq_true rfl) dX1_empireOf_21) hf (fun e21 h c hf => ?_) (fun r3 h c hf => ?_)
  · exact sj_outX hf rfl (by intro x hx; cases hx)
  refine sj_getI fdX1_186_11 hf dX1_empireOf_24 (fun v4 hf => ?_)
  exact sj_iret (o := (sd_ox sd_oI)) hf rfl rfl rfl dX1_empireOf_27
def fX1_empireOf (G : sd_G) (a0 : Nat) (a1 : Int32) : sd_M (Int32 ⊕ Nat) :=
  sd_bnd (sd_isC G 0 a0) fun _ =>
  sd_bx (fX1_find G a0 a1) (fun e2 =>
    sd_ret (.inr e2)) fun r1 =>
  sd_bnd (sd_getI G 11 0 r1) fun v2 =>
  if v2 = 0 then (
    fX1_empireOf_b16 G a0 a1 1)
  else (
    fX1_empireOf_b16 G a0 a1 0)
set_option maxHeartbeats 4000000 in
theorem sX1_empireOf (l : Launch) (hl : l.stackTraces = false) (G : sd_G) (a0 : Nat) (a1 : Int32) (h : sd_H) (ρ : Int32 ⊕ Nat) (cT : Nat × Nat) (h2 : sd_H) (hf : fX1_empireOf G a0 a1 h = some (ρ, cT, h2)) : sd_Met mX1_empireOf ((l, G), (9, 144), [.ref a0, .int a1], ((sd_ox sd_oI) ρ, h2), cT) h := by
  refine sd_entry (plainFor_of_name rfl) rfl (Nat.le_of_ble_eq_true rfl) ?_
  show sd_J mX1_empireOf ((l, G), (9, 144), [.ref a0, .int a1], ((sd_ox sd_oI) ρ, h2), cT) 0 [(0, .ref a0), (1, .int a1)] [] h cT
  unfold fX1_empireOf at hf
  refine sj_aload_n 0 dX1_empireOf_0 rfl ?_
  refine sj_iload_n 1 dX1_empireOf_1 rfl ?_
  obtain ⟨fs2, he2, hf⟩ := sd_isC_some hf
  refine sj_xR (rest := []) (fun _ _ _ e => sj_runV (n := 1) (As := [.int a1]) (rest := []) (sX1_find l hl G a0 a1 h _ _ _ e) he2 rfl rfl rfl rfl q2458 q2460 qs39 q116 q2461 (by decide +kernel) rfl rfl ⟨Nat.le_of_ble_eq_true rfl, Nat.le_of_ble_eq_true rfl⟩ rfl (Nat.le_of_ble_eq_true rfl) dX1_empireOf_2) hf (fun e2 h c hf => ?_) (fun r1 h c hf => ?_)
  · exact sj_outX hf rfl (by intro x hx; cases hx)
  refine sj_getI fdX1_175_11 hf dX1_empireOf_5 (fun v2 hf => ?_)
  refine sj_ifne 15 hf dX1_empireOf_8 (by decide) (fun g8 hf => ?_) (fun g8 hf => ?_)
  · refine sj_iconst (v := 0) dX1_empireOf_15 (by decide) ?_
    exact sj_loc [0, 1] rfl (sX1_empireOf_b16 l hl G a0 a1 ρ h2 cT a0 a1 0 _ _ hf)
  · refine sj_iconst (v := 1) dX1_empireOf_11 (by decide) ?_
    refine sj_goto 16 dX1_empireOf_12 (by decide) ?_
    exact sj_loc [0, 1] rfl (sX1_empireOf_b16 l hl G a0 a1 ρ h2 cT a0 a1 1 _ _ hf)
/-! SofaDig.buriedUnder(I)I -/
abbrev cX1_buriedUnder : ByteArray := prog_1_method_37_code
def yX1_buriedUnder : MethodName := ⟨RX1, "buriedUnder", "(I)I"⟩
def dkwX1_buriedUnder_1 : List UInt8 := [172]
abbrev dktX1_buriedUnder_1 : List UInt8 := dkwX1_buriedUnder_1 ++ []
def dkwX1_buriedUnder_0 : List UInt8 := [42, 27, 182, 0, 182, 154, 0, 7, 4, 167, 0, 4, 3, 184, 0, 63, 42, 180, 0, 54, 27, 182, 0, 189]
abbrev dktX1_buriedUnder_0 : List UInt8 := dkwX1_buriedUnder_0 ++ dktX1_buriedUnder_1
theorem dksX1_buriedUnder_0 : cX1_buriedUnder.data.toList.drop 0 = dktX1_buriedUnder_0 := by decide +kernel
theorem dksX1_buriedUnder_1 : cX1_buriedUnder.data.toList.drop 24 = dktX1_buriedUnder_1 := dk_seg dksX1_buriedUnder_0 24 rfl rfl
theorem dX1_buriedUnder_0 : decode cX1_buriedUnder 0 = .ok (.aload_n 0, 1) := dk_42 (dk_at dksX1_buriedUnder_0 0 rfl rfl)
theorem dX1_buriedUnder_1 : decode cX1_buriedUnder 1 = .ok (.iload_n 1, 1) := dk_27 (dk_at dksX1_buriedUnder_0 1 rfl rfl)
theorem dX1_buriedUnder_2 : decode cX1_buriedUnder 2 = .ok (.invokevirtual 182, 3) := dk_182 0 182 (dk_at dksX1_buriedUnder_0 2 rfl rfl)
theorem dX1_buriedUnder_5 : decode cX1_buriedUnder 5 = .ok (.ifCond .ne 7, 3) := dk_154 0 7 (dk_at dksX1_buriedUnder_0 5 rfl rfl)
theorem dX1_buriedUnder_8 : decode cX1_buriedUnder 8 = .ok (.iconst 1, 1) := dk_4 (dk_at dksX1_buriedUnder_0 8 rfl rfl)
theorem dX1_buriedUnder_9 : decode cX1_buriedUnder 9 = .ok (.goto 4, 3) := dk_167 0 4 (dk_at dksX1_buriedUnder_0 9 rfl rfl)
theorem dX1_buriedUnder_12 : decode cX1_buriedUnder 12 = .ok (.iconst 0, 1) := dk_3 (dk_at dksX1_buriedUnder_0 12 rfl rfl)
theorem dX1_buriedUnder_13 : decode cX1_buriedUnder 13 = .ok (.invokestatic 63, 3) := dk_184 0 63 (dk_at dksX1_buriedUnder_0 13 rfl rfl)
theorem dX1_buriedUnder_16 : decode cX1_buriedUnder 16 = .ok (.aload_n 0, 1) := dk_42 (dk_at dksX1_buriedUnder_0 16 rfl rfl)
theorem dX1_buriedUnder_17 : decode cX1_buriedUnder 17 = .ok (.getfield 54, 3) := dk_180 0 54 (dk_at dksX1_buriedUnder_0 17 rfl rfl)
theorem dX1_buriedUnder_20 : decode cX1_buriedUnder 20 = .ok (.iload_n 1, 1) := dk_27 (dk_at dksX1_buriedUnder_0 20 rfl rfl)
theorem dX1_buriedUnder_21 : decode cX1_buriedUnder 21 = .ok (.invokevirtual 189, 3) := dk_182 0 189 (dk_at dksX1_buriedUnder_0 21 rfl rfl)
theorem dX1_buriedUnder_24 : decode cX1_buriedUnder 24 = .ok (.ireturn, 1) := dk_172 (dk_at dksX1_buriedUnder_1 0 rfl rfl)
abbrev mX1_buriedUnder : sd_Y := (yX1_buriedUnder, cX1_buriedUnder, 2, some (.int), none)
def fX1_buriedUnder_b13 (G : sd_G) (w0 : Nat) (w1 : Int32) (y0 : Int32) : sd_M (Int32 ⊕ Nat) :=
  sd_bx (fX1_requireState G y0) (fun e13 =>
    sd_ret (.inr e13)) fun _ =>
  sd_bnd (sd_getR G 0 2 w0) fun v2 =>
  sd_bnd (sd_isC G 2 v2) fun _ =>
  sd_bnd (fX3_above G v2 w1) fun r3 =>
  sd_ret (.inl r3)
set_option maxHeartbeats 4000000 in
theorem sX1_buriedUnder_b13 (l : Launch) (hl : l.stackTraces = false) (G : sd_G) (a0 : Nat) (a1 : Int32) (ρ : Int32 ⊕ Nat) (h2 : sd_H) (cT : Nat × Nat) (w0 : Nat) (w1 : Int32) (y0 : Int32) (h : sd_H) (c : Nat × Nat) (hf : fX1_buriedUnder_b13 G w0 w1 y0 h = some (ρ, c, h2)) : sd_J mX1_buriedUnder ((l, G), (8, 123), [.ref a0, .int a1], ((sd_ox sd_oI) ρ, h2), cT) 13 [(0, .ref w0), (1, .int w1)] [.int y0] h c := by
  unfold fX1_buriedUnder_b13 at hf
  refine sj_xV (rest := []) (fun _ _ _ e => sj_runS (n := 1) (rest := []) (sX1_requireState l hl G y0 h _ _ _ e) rfl rfl q2320 q2321 q116 q2322 (by decide +kernel) rfl ⟨Nat.le_of_ble_eq_true rfl, Nat.le_of_ble_eq_true rfl⟩ rfl (Nat.le_of_ble_eq_true rfl) dX1_buriedUnder_13) hf (fun e13 h c hf => ?_) (fun h c hf => ?_)
  · exact sj_outX hf rfl (by intro x hx; cases hx)
  refine sj_aload_n 0 dX1_buriedUnder_16 rfl ?_
  refine sj_getR fdX1_54_0 hf dX1_buriedUnder_17 (fun v2 hf => ?_)
  refine sj_iload_n 1 dX1_buriedUnder_20 rfl ?_
  obtain ⟨fs21, he21, hf⟩ := sd_isC_some hf
  refine sj_cI (rest := []) (fun _ _ _ e => sj_runV (n := 1) (As := [.int w1]) (rest := []) (sX3_above l G v2 w1 h _ _ _ e) he21 rfl rfl rfl rfl q2518 q2519 q2520 q118 q2521 (by decide +kernel) rfl rfl ⟨Nat.le_of_ble_eq_true rfl, Nat.le_of_ble_eq_true rfl⟩ rfl (Nat.le_of_ble_eq_true rfl) dX1_buriedUnder_21) hf (fun r3 h c hf => ?_)
  exact sj_iret (o := (sd_ox sd_oI)) hf rfl rfl rfl dX1_buriedUnder_24
def fX1_buriedUnder (G : sd_G) (a0 : Nat) (a1 : Int32) : sd_M (Int32 ⊕ Nat) :=
  sd_bnd (sd_isC G 0 a0) fun _ =>
  sd_bx (fX1_isFound G a0 a1) (fun e2 =>
    sd_ret (.inr e2)) fun r1 =>
  if r1 = 0 then (
    fX1_buriedUnder_b13 G a0 a1 1)
  else (
    fX1_buriedUnder_b13 G a0 a1 0)
set_option maxHeartbeats 4000000 in
theorem sX1_buriedUnder (l : Launch) (hl : l.stackTraces = false) (G : sd_G) (a0 : Nat) (a1 : Int32) (h : sd_H) (ρ : Int32 ⊕ Nat) (cT : Nat × Nat) (h2 : sd_H) (hf : fX1_buriedUnder G a0 a1 h = some (ρ, cT, h2)) : sd_Met mX1_buriedUnder ((l, G), (8, 123), [.ref a0, .int a1], ((sd_ox sd_oI) ρ, h2), cT) h := by
  refine sd_entry (plainFor_of_name rfl) rfl (Nat.le_of_ble_eq_true rfl) ?_
  show sd_J mX1_buriedUnder ((l, G), (8, 123), [.ref a0, .int a1], ((sd_ox sd_oI) ρ, h2), cT) 0 [(0, .ref a0), (1, .int a1)] [] h cT
  unfold fX1_buriedUnder at hf
  refine sj_aload_n 0 dX1_buriedUnder_0 rfl ?_
  refine sj_iload_n 1 dX1_buriedUnder_1 rfl ?_
  obtain ⟨fs2, he2, hf⟩ := sd_isC_some hf
  refine sj_xI (rest := []) (fun _ _ _ e => sj_runV (n := 1) (As := [.int a1]) (rest := []) (sX1_isFound l hl G a0 a1 h _ _ _ e) he2 rfl rfl rfl rfl q2489 q2479 q2480 q116 q2481 (by decide +kernel) rfl rfl ⟨Nat.le_of_ble_eq_true rfl, Nat.le_of_ble_eq_true rfl⟩ rfl (Nat.le_of_ble_eq_true rfl) dX1_buriedUnder_2) hf (fun e2 h c hf => ?_) (fun r1 h c hf => ?_)
  · exact sj_outX hf rfl (by intro x hx; cases hx)
  refine sj_ifne 12 hf dX1_buriedUnder_5 (by decide) (fun g5 hf => ?_) (fun g5 hf => ?_)
  · refine sj_iconst (v := 0) dX1_buriedUnder_12 (by decide) ?_
    exact sj_loc [0, 1] rfl (sX1_buriedUnder_b13 l hl G a0 a1 ρ h2 cT a0 a1 0 _ _ hf)
  · refine sj_iconst (v := 1) dX1_buriedUnder_8 (by decide) ?_
    refine sj_goto 13 dX1_buriedUnder_9 (by decide) ?_
    exact sj_loc [0, 1] rfl (sX1_buriedUnder_b13 l hl G a0 a1 ρ h2 cT a0 a1 1 _ _ hf)
/-! SofaDig.stratum(I)I -/
abbrev cX1_stratum : ByteArray := prog_1_method_13_code
def yX1_stratum : MethodName := ⟨RX1, "stratum", "(I)I"⟩
def dkwX1_stratum_0 : List UInt8 := [27, 42, 180, 0, 54, 180, 0, 106, 184, 0, 25, 27, 172]
abbrev dktX1_stratum_0 : List UInt8 := dkwX1_stratum_0 ++ []
theorem dksX1_stratum_0 : cX1_stratum.data.toList.drop 0 = dktX1_stratum_0 := by decide +kernel
theorem dX1_stratum_0 : decode cX1_stratum 0 = .ok (.iload_n 1, 1) := dk_27 (dk_at dksX1_stratum_0 0 rfl rfl)
theorem dX1_stratum_1 : decode cX1_stratum 1 = .ok (.aload_n 0, 1) := dk_42 (dk_at dksX1_stratum_0 1 rfl rfl)
theorem dX1_stratum_2 : decode cX1_stratum 2 = .ok (.getfield 54, 3) := dk_180 0 54 (dk_at dksX1_stratum_0 2 rfl rfl)
theorem dX1_stratum_5 : decode cX1_stratum 5 = .ok (.getfield 106, 3) := dk_180 0 106 (dk_at dksX1_stratum_0 5 rfl rfl)
theorem dX1_stratum_8 : decode cX1_stratum 8 = .ok (.invokestatic 25, 3) := dk_184 0 25 (dk_at dksX1_stratum_0 8 rfl rfl)
theorem dX1_stratum_11 : decode cX1_stratum 11 = .ok (.iload_n 1, 1) := dk_27 (dk_at dksX1_stratum_0 11 rfl rfl)
theorem dX1_stratum_12 : decode cX1_stratum 12 = .ok (.ireturn, 1) := dk_172 (dk_at dksX1_stratum_0 12 rfl rfl)
abbrev mX1_stratum : sd_Y := (yX1_stratum, cX1_stratum, 2, some (.int), none)
def fX1_stratum (G : sd_G) (a0 : Nat) (a1 : Int32) : sd_M (Int32 ⊕ Nat) :=
  sd_bnd (sd_getR G 0 2 a0) fun v1 =>
  sd_bnd (sd_getI G 2 0 v1) fun v2 =>
  sd_bx (fX1_requireIndex G a1 v2) (fun e8 =>
    sd_ret (.inr e8)) fun _ =>
  sd_ret (.inl a1)
set_option maxHeartbeats 4000000 in
theorem sX1_stratum (l : Launch) (hl : l.stackTraces = false) (G : sd_G) (a0 : Nat) (a1 : Int32) (h : sd_H) (ρ : Int32 ⊕ Nat) (cT : Nat × Nat) (h2 : sd_H) (hf : fX1_stratum G a0 a1 h = some (ρ, cT, h2)) : sd_Met mX1_stratum ((l, G), (7, 102), [.ref a0, .int a1], ((sd_ox sd_oI) ρ, h2), cT) h := by
  refine sd_entry (plainFor_of_name rfl) rfl (Nat.le_of_ble_eq_true rfl) ?_
  show sd_J mX1_stratum ((l, G), (7, 102), [.ref a0, .int a1], ((sd_ox sd_oI) ρ, h2), cT) 0 [(0, .ref a0), (1, .int a1)] [] h cT
  unfold fX1_stratum at hf
  refine sj_iload_n 1 dX1_stratum_0 rfl ?_
  refine sj_aload_n 0 dX1_stratum_1 rfl ?_
  refine sj_getR fdX1_54_0 hf dX1_stratum_2 (fun v1 hf => ?_)
  refine sj_getI fdX1_106_2 hf dX1_stratum_5 (fun v2 hf => ?_)
  refine sj_xV (rest := []) (fun _ _ _ e => sj_runS (n := 2) (rest := []) (sX1_requireIndex l hl G a1 v2 h _ _ _ e) rfl rfl q2394 q2395 q116 q2396 (by decide +kernel) rfl ⟨Nat.le_of_ble_eq_true rfl, Nat.le_of_ble_eq_true rfl⟩ rfl (Nat.le_of_ble_eq_true rfl) dX1_stratum_8) hf (fun e8 h c hf => ?_) (fun h c hf => ?_)
  · exact sj_outX hf rfl (by intro x hx; cases hx)
  refine sj_iload_n 1 dX1_stratum_11 rfl ?_
  exact sj_iret (o := (sd_ox sd_oI)) hf rfl rfl rfl dX1_stratum_12
/-! SofaDig.notBefore(I)I -/
abbrev cX1_notBefore : ByteArray := prog_1_method_38_code
def yX1_notBefore : MethodName := ⟨RX1, "notBefore", "(I)I"⟩
def dkwX1_notBefore_0 : List UInt8 := [42, 180, 0, 54, 42, 27, 182, 0, 192, 182, 0, 194, 172]
abbrev dktX1_notBefore_0 : List UInt8 := dkwX1_notBefore_0 ++ []
theorem dksX1_notBefore_0 : cX1_notBefore.data.toList.drop 0 = dktX1_notBefore_0 := by decide +kernel
theorem dX1_notBefore_0 : decode cX1_notBefore 0 = .ok (.aload_n 0, 1) := dk_42 (dk_at dksX1_notBefore_0 0 rfl rfl)
theorem dX1_notBefore_1 : decode cX1_notBefore 1 = .ok (.getfield 54, 3) := dk_180 0 54 (dk_at dksX1_notBefore_0 1 rfl rfl)
theorem dX1_notBefore_4 : decode cX1_notBefore 4 = .ok (.aload_n 0, 1) := dk_42 (dk_at dksX1_notBefore_0 4 rfl rfl)
theorem dX1_notBefore_5 : decode cX1_notBefore 5 = .ok (.iload_n 1, 1) := dk_27 (dk_at dksX1_notBefore_0 5 rfl rfl)
theorem dX1_notBefore_6 : decode cX1_notBefore 6 = .ok (.invokevirtual 192, 3) := dk_182 0 192 (dk_at dksX1_notBefore_0 6 rfl rfl)
theorem dX1_notBefore_9 : decode cX1_notBefore 9 = .ok (.invokevirtual 194, 3) := dk_182 0 194 (dk_at dksX1_notBefore_0 9 rfl rfl)
theorem dX1_notBefore_12 : decode cX1_notBefore 12 = .ok (.ireturn, 1) := dk_172 (dk_at dksX1_notBefore_0 12 rfl rfl)
abbrev mX1_notBefore : sd_Y := (yX1_notBefore, cX1_notBefore, 2, some (.int), none)
def fX1_notBefore (G : sd_G) (a0 : Nat) (a1 : Int32) : sd_M (Int32 ⊕ Nat) :=
  sd_bnd (sd_getR G 0 2 a0) fun v1 =>
  sd_bnd (sd_isC G 0 a0) fun _ =>
  sd_bx (fX1_stratum G a0 a1) (fun e6 =>
    sd_ret (.inr e6)) fun r2 =>
  sd_bnd (sd_isC G 2 v1) fun _ =>
  sd_bnd (fX3_notBefore G v1 r2) fun r3 =>
  sd_ret (.inl r3)
set_option maxHeartbeats 4000000 in
theorem sX1_notBefore (l : Launch) (hl : l.stackTraces = false) (G : sd_G) (a0 : Nat) (a1 : Int32) (h : sd_H) (ρ : Int32 ⊕ Nat) (cT : Nat × Nat) (h2 : sd_H) (hf : fX1_notBefore G a0 a1 h = some (ρ, cT, h2)) : sd_Met mX1_notBefore ((l, G), (8, 123), [.ref a0, .int a1], ((sd_ox sd_oI) ρ, h2), cT) h := by
  refine sd_entry (plainFor_of_name rfl) rfl (Nat.le_of_ble_eq_true rfl) ?_
  show sd_J mX1_notBefore ((l, G), (8, 123), [.ref a0, .int a1], ((sd_ox sd_oI) ρ, h2), cT) 0 [(0, .ref a0), (1, .int a1)] [] h cT
  unfold fX1_notBefore at hf
  refine sj_aload_n 0 dX1_notBefore_0 rfl ?_
  refine sj_getR fdX1_54_0 hf dX1_notBefore_1 (fun v1 hf => ?_)
  refine sj_aload_n 0 dX1_notBefore_4 rfl ?_
  refine sj_iload_n 1 dX1_notBefore_5 rfl ?_
  obtain ⟨fs6, he6, hf⟩ := sd_isC_some hf
  refine sj_xI (rest := [.ref v1]) (fun _ _ _ e => sj_runV (n := 1) (As := [.int a1]) (rest := [.ref v1]) (sX1_stratum l hl G a0 a1 h _ _ _ e) he6 rfl rfl rfl rfl q2529 q2531 qs40 q116 q2532 (by decide +kernel) rfl rfl ⟨Nat.le_of_ble_eq_true rfl, Nat.le_of_ble_eq_true rfl⟩ rfl (Nat.le_of_ble_eq_true rfl) dX1_notBefore_6) hf (fun e6 h c hf => ?_) (fun r2 h c hf => ?_)
  · exact sj_outX hf rfl (by intro x hx; cases hx)
  obtain ⟨fs9, he9, hf⟩ := sd_isC_some hf
  refine sj_cI (rest := []) (fun _ _ _ e => sj_runV (n := 1) (As := [.int r2]) (rest := []) (sX3_notBefore l G v1 r2 h _ _ _ e) he9 rfl rfl rfl rfl q2298 q2299 q2300 q118 q2301 (by decide +kernel) rfl rfl ⟨Nat.le_of_ble_eq_true rfl, Nat.le_of_ble_eq_true rfl⟩ rfl (Nat.le_of_ble_eq_true rfl) dX1_notBefore_9) hf (fun r3 h c hf => ?_)
  exact sj_iret (o := (sd_ox sd_oI)) hf rfl rfl rfl dX1_notBefore_12
/-! SofaDig.isSeenIn(II)Z -/
abbrev cX1_isSeenIn : ByteArray := prog_1_method_39_code
def yX1_isSeenIn : MethodName := ⟨RX1, "isSeenIn", "(II)Z"⟩
def dkwX1_isSeenIn_1 : List UInt8 := [184, 0, 25, 42, 180, 0, 54, 27, 28, 182, 0, 200, 172]
abbrev dktX1_isSeenIn_1 : List UInt8 := dkwX1_isSeenIn_1 ++ []
def dkwX1_isSeenIn_0 : List UInt8 := [27, 42, 180, 0, 54, 180, 0, 106, 184, 0, 25, 28, 42, 180, 0, 54, 180, 0, 197, 182, 0, 118]
abbrev dktX1_isSeenIn_0 : List UInt8 := dkwX1_isSeenIn_0 ++ dktX1_isSeenIn_1
theorem dksX1_isSeenIn_0 : cX1_isSeenIn.data.toList.drop 0 = dktX1_isSeenIn_0 := by decide +kernel
theorem dksX1_isSeenIn_1 : cX1_isSeenIn.data.toList.drop 22 = dktX1_isSeenIn_1 := dk_seg dksX1_isSeenIn_0 22 rfl rfl
theorem dX1_isSeenIn_0 : decode cX1_isSeenIn 0 = .ok (.iload_n 1, 1) := dk_27 (dk_at dksX1_isSeenIn_0 0 rfl rfl)
theorem dX1_isSeenIn_1 : decode cX1_isSeenIn 1 = .ok (.aload_n 0, 1) := dk_42 (dk_at dksX1_isSeenIn_0 1 rfl rfl)
theorem dX1_isSeenIn_2 : decode cX1_isSeenIn 2 = .ok (.getfield 54, 3) := dk_180 0 54 (dk_at dksX1_isSeenIn_0 2 rfl rfl)
theorem dX1_isSeenIn_5 : decode cX1_isSeenIn 5 = .ok (.getfield 106, 3) := dk_180 0 106 (dk_at dksX1_isSeenIn_0 5 rfl rfl)
theorem dX1_isSeenIn_8 : decode cX1_isSeenIn 8 = .ok (.invokestatic 25, 3) := dk_184 0 25 (dk_at dksX1_isSeenIn_0 8 rfl rfl)
theorem dX1_isSeenIn_11 : decode cX1_isSeenIn 11 = .ok (.iload_n 2, 1) := dk_28 (dk_at dksX1_isSeenIn_0 11 rfl rfl)
theorem dX1_isSeenIn_12 : decode cX1_isSeenIn 12 = .ok (.aload_n 0, 1) := dk_42 (dk_at dksX1_isSeenIn_0 12 rfl rfl)
theorem dX1_isSeenIn_13 : decode cX1_isSeenIn 13 = .ok (.getfield 54, 3) := dk_180 0 54 (dk_at dksX1_isSeenIn_0 13 rfl rfl)
theorem dX1_isSeenIn_16 : decode cX1_isSeenIn 16 = .ok (.getfield 197, 3) := dk_180 0 197 (dk_at dksX1_isSeenIn_0 16 rfl rfl)
theorem dX1_isSeenIn_19 : decode cX1_isSeenIn 19 = .ok (.invokevirtual 118, 3) := dk_182 0 118 (dk_at dksX1_isSeenIn_0 19 rfl rfl)
theorem dX1_isSeenIn_22 : decode cX1_isSeenIn 22 = .ok (.invokestatic 25, 3) := dk_184 0 25 (dk_at dksX1_isSeenIn_1 0 rfl rfl)
theorem dX1_isSeenIn_25 : decode cX1_isSeenIn 25 = .ok (.aload_n 0, 1) := dk_42 (dk_at dksX1_isSeenIn_1 3 rfl rfl)
theorem dX1_isSeenIn_26 : decode cX1_isSeenIn 26 = .ok (.getfield 54, 3) := dk_180 0 54 (dk_at dksX1_isSeenIn_1 4 rfl rfl)
theorem dX1_isSeenIn_29 : decode cX1_isSeenIn 29 = .ok (.iload_n 1, 1) := dk_27 (dk_at dksX1_isSeenIn_1 7 rfl rfl)
theorem dX1_isSeenIn_30 : decode cX1_isSeenIn 30 = .ok (.iload_n 2, 1) := dk_28 (dk_at dksX1_isSeenIn_1 8 rfl rfl)
theorem dX1_isSeenIn_31 : decode cX1_isSeenIn 31 = .ok (.invokevirtual 200, 3) := dk_182 0 200 (dk_at dksX1_isSeenIn_1 9 rfl rfl)
theorem dX1_isSeenIn_34 : decode cX1_isSeenIn 34 = .ok (.ireturn, 1) := dk_172 (dk_at dksX1_isSeenIn_1 12 rfl rfl)
theorem fdX1_197_2 : sd_Fd "SofaDig" 197 2 3 := ⟨(RX3, TX3, 12), "SofaDig$Sofa", rfl, by decide, rfl, in_X3, Or.inl rfl, Or.inr ⟨_, q254⟩⟩
abbrev mX1_isSeenIn : sd_Y := (yX1_isSeenIn, cX1_isSeenIn, 3, some (.boolean), none)
def fX1_isSeenIn (G : sd_G) (a0 : Nat) (a1 : Int32) (a2 : Int32) : sd_M (Int32 ⊕ Nat) :=
  sd_bnd (sd_getR G 0 2 a0) fun v1 =>
  sd_bnd (sd_getI G 2 0 v1) fun v2 =>
  sd_bx (fX1_requireIndex G a1 v2) (fun e8 =>
    sd_ret (.inr e8)) fun _ =>
  sd_bnd (sd_getR G 0 2 a0) fun v3 =>
  sd_bnd (sd_getR G 2 3 v3) fun v4 =>
  sd_bnd (sd_isC G 41 v4) fun _ =>
  sd_bnd (fJ2_size G v4) fun r5 =>
  sd_bx (fX1_requireIndex G a2 r5) (fun e22 =>
    sd_ret (.inr e22)) fun _ =>
  sd_bnd (sd_getR G 0 2 a0) fun v6 =>
  sd_bnd (sd_isC G 2 v6) fun _ =>
  sd_bnd (fX3_isSeenIn G v6 a1 a2) fun r7 =>
  sd_retNX .boolean r7
set_option maxHeartbeats 4000000 in
theorem sX1_isSeenIn (l : Launch) (hl : l.stackTraces = false) (G : sd_G) (a0 : Nat) (a1 : Int32) (a2 : Int32) (h : sd_H) (ρ : Int32 ⊕ Nat) (cT : Nat × Nat) (h2 : sd_H) (hf : fX1_isSeenIn G a0 a1 a2 h = some (ρ, cT, h2)) : sd_Met mX1_isSeenIn ((l, G), (7, 102), [.ref a0, .int a1, .int a2], ((sd_ox sd_oI) ρ, h2), cT) h := by
  refine sd_entry (plainFor_of_name rfl) rfl (Nat.le_of_ble_eq_true rfl) ?_
  show sd_J mX1_isSeenIn ((l, G), (7, 102), [.ref a0, .int a1, .int a2], ((sd_ox sd_oI) ρ, h2), cT) 0 [(0, .ref a0), (1, .int a1), (2, .int a2)] [] h cT
  unfold fX1_isSeenIn at hf
  refine sj_iload_n 1 dX1_isSeenIn_0 rfl ?_
  refine sj_aload_n 0 dX1_isSeenIn_1 rfl ?_
  refine sj_getR fdX1_54_0 hf dX1_isSeenIn_2 (fun v1 hf => ?_)
  refine sj_getI fdX1_106_2 hf dX1_isSeenIn_5 (fun v2 hf => ?_)
  refine sj_xV (rest := []) (fun _ _ _ e => sj_runS (n := 2) (rest := []) (sX1_requireIndex l hl G a1 v2 h _ _ _ e) rfl rfl q2394 q2395 q116 q2396 (by decide +kernel) rfl ⟨Nat.le_of_ble_eq_true rfl, Nat.le_of_ble_eq_true rfl⟩ rfl (Nat.le_of_ble_eq_true rfl) dX1_isSeenIn_8) hf (fun e8 h c hf => ?_) (fun h c hf => ?_)
  · exact sj_outX hf rfl (by intro x hx; cases hx)
  refine sj_iload_n 2 dX1_isSeenIn_11 rfl ?_
  refine sj_aload_n 0 dX1_isSeenIn_12 rfl ?_
  refine sj_getR fdX1_54_0 hf dX1_isSeenIn_13 (fun v3 hf => ?_)
  refine sj_getR fdX1_197_2 hf dX1_isSeenIn_16 (fun v4 hf => ?_)
  obtain ⟨fs19, he19, hf⟩ := sd_isC_some hf
  refine sj_cI (rest := [.int a2]) (fun _ _ _ e => sj_runV (n := 0) (As := []) (rest := [.int a2]) (sJ2_size l G v4 h _ _ _ e) he19 rfl rfl rfl rfl q2104 q490 q491 q121 q492 (by decide +kernel) rfl rfl ⟨Nat.le_of_ble_eq_true rfl, Nat.le_of_ble_eq_true rfl⟩ rfl (Nat.le_of_ble_eq_true rfl) dX1_isSeenIn_19) hf (fun r5 h c hf => ?_)
  refine sj_xV (rest := []) (fun _ _ _ e => sj_runS (n := 2) (rest := []) (sX1_requireIndex l hl G a2 r5 h _ _ _ e) rfl rfl q2394 q2395 q116 q2396 (by decide +kernel) rfl ⟨Nat.le_of_ble_eq_true rfl, Nat.le_of_ble_eq_true rfl⟩ rfl (Nat.le_of_ble_eq_true rfl) dX1_isSeenIn_22) hf (fun e22 h c hf => ?_) (fun h c hf => ?_)
  · exact sj_outX hf rfl (by intro x hx; cases hx)
  refine sj_aload_n 0 dX1_isSeenIn_25 rfl ?_
  refine sj_getR fdX1_54_0 hf dX1_isSeenIn_26 (fun v6 hf => ?_)
  refine sj_iload_n 1 dX1_isSeenIn_29 rfl ?_
  refine sj_iload_n 2 dX1_isSeenIn_30 rfl ?_
  obtain ⟨fs31, he31, hf⟩ := sd_isC_some hf
  refine sj_cI (rest := []) (fun _ _ _ e => sj_runV (n := 2) (As := [.int a1, .int a2]) (rest := []) (sX3_isSeenIn l G v6 a1 a2 h _ _ _ e) he31 rfl rfl rfl rfl q2540 q2309 q2310 q118 q2311 (by decide +kernel) rfl rfl ⟨Nat.le_of_ble_eq_true rfl, Nat.le_of_ble_eq_true rfl⟩ rfl (Nat.le_of_ble_eq_true rfl) dX1_isSeenIn_31) hf (fun r7 h c hf => ?_)
  exact sj_zretX hf rfl rfl dX1_isSeenIn_34
/-! SofaDig.isMixed(I)Z -/
abbrev cX1_isMixed : ByteArray := prog_1_method_40_code
def yX1_isMixed : MethodName := ⟨RX1, "isMixed", "(I)Z"⟩
def dkwX1_isMixed_0 : List UInt8 := [42, 180, 0, 54, 42, 27, 182, 0, 192, 182, 0, 204, 172]
abbrev dktX1_isMixed_0 : List UInt8 := dkwX1_isMixed_0 ++ []
theorem dksX1_isMixed_0 : cX1_isMixed.data.toList.drop 0 = dktX1_isMixed_0 := by decide +kernel
theorem dX1_isMixed_0 : decode cX1_isMixed 0 = .ok (.aload_n 0, 1) := dk_42 (dk_at dksX1_isMixed_0 0 rfl rfl)
theorem dX1_isMixed_1 : decode cX1_isMixed 1 = .ok (.getfield 54, 3) := dk_180 0 54 (dk_at dksX1_isMixed_0 1 rfl rfl)
theorem dX1_isMixed_4 : decode cX1_isMixed 4 = .ok (.aload_n 0, 1) := dk_42 (dk_at dksX1_isMixed_0 4 rfl rfl)
theorem dX1_isMixed_5 : decode cX1_isMixed 5 = .ok (.iload_n 1, 1) := dk_27 (dk_at dksX1_isMixed_0 5 rfl rfl)
theorem dX1_isMixed_6 : decode cX1_isMixed 6 = .ok (.invokevirtual 192, 3) := dk_182 0 192 (dk_at dksX1_isMixed_0 6 rfl rfl)
theorem dX1_isMixed_9 : decode cX1_isMixed 9 = .ok (.invokevirtual 204, 3) := dk_182 0 204 (dk_at dksX1_isMixed_0 9 rfl rfl)
theorem dX1_isMixed_12 : decode cX1_isMixed 12 = .ok (.ireturn, 1) := dk_172 (dk_at dksX1_isMixed_0 12 rfl rfl)
abbrev mX1_isMixed : sd_Y := (yX1_isMixed, cX1_isMixed, 2, some (.boolean), none)
def fX1_isMixed (G : sd_G) (a0 : Nat) (a1 : Int32) : sd_M (Int32 ⊕ Nat) :=
  sd_bnd (sd_getR G 0 2 a0) fun v1 =>
  sd_bnd (sd_isC G 0 a0) fun _ =>
  sd_bx (fX1_stratum G a0 a1) (fun e6 =>
    sd_ret (.inr e6)) fun r2 =>
  sd_bnd (sd_isC G 2 v1) fun _ =>
  sd_bnd (fX3_isMixed G v1 r2) fun r3 =>
  sd_retNX .boolean r3
set_option maxHeartbeats 4000000 in
theorem sX1_isMixed (l : Launch) (hl : l.stackTraces = false) (G : sd_G) (a0 : Nat) (a1 : Int32) (h : sd_H) (ρ : Int32 ⊕ Nat) (cT : Nat × Nat) (h2 : sd_H) (hf : fX1_isMixed G a0 a1 h = some (ρ, cT, h2)) : sd_Met mX1_isMixed ((l, G), (8, 123), [.ref a0, .int a1], ((sd_ox sd_oI) ρ, h2), cT) h := by
  refine sd_entry (plainFor_of_name rfl) rfl (Nat.le_of_ble_eq_true rfl) ?_
  show sd_J mX1_isMixed ((l, G), (8, 123), [.ref a0, .int a1], ((sd_ox sd_oI) ρ, h2), cT) 0 [(0, .ref a0), (1, .int a1)] [] h cT
  unfold fX1_isMixed at hf
  refine sj_aload_n 0 dX1_isMixed_0 rfl ?_
  refine sj_getR fdX1_54_0 hf dX1_isMixed_1 (fun v1 hf => ?_)
  refine sj_aload_n 0 dX1_isMixed_4 rfl ?_
  refine sj_iload_n 1 dX1_isMixed_5 rfl ?_
  obtain ⟨fs6, he6, hf⟩ := sd_isC_some hf
  refine sj_xI (rest := [.ref v1]) (fun _ _ _ e => sj_runV (n := 1) (As := [.int a1]) (rest := [.ref v1]) (sX1_stratum l hl G a0 a1 h _ _ _ e) he6 rfl rfl rfl rfl q2529 q2531 qs40 q116 q2532 (by decide +kernel) rfl rfl ⟨Nat.le_of_ble_eq_true rfl, Nat.le_of_ble_eq_true rfl⟩ rfl (Nat.le_of_ble_eq_true rfl) dX1_isMixed_6) hf (fun e6 h c hf => ?_) (fun r2 h c hf => ?_)
  · exact sj_outX hf rfl (by intro x hx; cases hx)
  obtain ⟨fs9, he9, hf⟩ := sd_isC_some hf
  refine sj_cI (rest := []) (fun _ _ _ e => sj_runV (n := 1) (As := [.int r2]) (rest := []) (sX3_isMixed l G v1 r2 h _ _ _ e) he9 rfl rfl rfl rfl q2304 q2305 q2306 q118 q2307 (by decide +kernel) rfl rfl ⟨Nat.le_of_ble_eq_true rfl, Nat.le_of_ble_eq_true rfl⟩ rfl (Nat.le_of_ble_eq_true rfl) dX1_isMixed_9) hf (fun r3 h c hf => ?_)
  exact sj_zretX hf rfl rfl dX1_isMixed_12
/-! SofaDig.dig(I)I -/
abbrev cX1_dig : ByteArray := prog_1_method_41_code
def yX1_dig : MethodName := ⟨RX1, "dig", "(I)I"⟩
def dkwX1_dig_0 : List UInt8 := [42, 180, 0, 54, 42, 27, 182, 0, 149, 182, 0, 207, 172]
abbrev dktX1_dig_0 : List UInt8 := dkwX1_dig_0 ++ []
theorem dksX1_dig_0 : cX1_dig.data.toList.drop 0 = dktX1_dig_0 := by decide +kernel
theorem dX1_dig_0 : decode cX1_dig 0 = .ok (.aload_n 0, 1) := dk_42 (dk_at dksX1_dig_0 0 rfl rfl)
theorem dX1_dig_1 : decode cX1_dig 1 = .ok (.getfield 54, 3) := dk_180 0 54 (dk_at dksX1_dig_0 1 rfl rfl)
theorem dX1_dig_4 : decode cX1_dig 4 = .ok (.aload_n 0, 1) := dk_42 (dk_at dksX1_dig_0 4 rfl rfl)
theorem dX1_dig_5 : decode cX1_dig 5 = .ok (.iload_n 1, 1) := dk_27 (dk_at dksX1_dig_0 5 rfl rfl)
theorem dX1_dig_6 : decode cX1_dig 6 = .ok (.invokevirtual 149, 3) := dk_182 0 149 (dk_at dksX1_dig_0 6 rfl rfl)
theorem dX1_dig_9 : decode cX1_dig 9 = .ok (.invokevirtual 207, 3) := dk_182 0 207 (dk_at dksX1_dig_0 9 rfl rfl)
theorem dX1_dig_12 : decode cX1_dig 12 = .ok (.ireturn, 1) := dk_172 (dk_at dksX1_dig_0 12 rfl rfl)
abbrev mX1_dig : sd_Y := (yX1_dig, cX1_dig, 2, some (.int), none)
def fX1_dig (G : sd_G) (a0 : Nat) (a1 : Int32) : sd_M (Int32 ⊕ Nat) :=
  sd_bnd (sd_getR G 0 2 a0) fun v1 =>
  sd_bnd (sd_isC G 0 a0) fun _ =>
  sd_bx (fX1_stacked G a0 a1) (fun e6 =>
    sd_ret (.inr e6)) fun r2 =>
  sd_bnd (sd_isC G 2 v1) fun _ =>
  sd_bnd (fX3_dig G v1 r2) fun r3 =>
  sd_ret (.inl r3)
set_option maxHeartbeats 4000000 in
theorem sX1_dig (l : Launch) (hl : l.stackTraces = false) (G : sd_G) (a0 : Nat) (a1 : Int32) (h : sd_H) (ρ : Int32 ⊕ Nat) (cT : Nat × Nat) (h2 : sd_H) (hf : fX1_dig G a0 a1 h = some (ρ, cT, h2)) : sd_Met mX1_dig ((l, G), (9, 197), [.ref a0, .int a1], ((sd_ox sd_oI) ρ, h2), cT) h := by
  refine sd_entry (plainFor_of_name rfl) rfl (Nat.le_of_ble_eq_true rfl) ?_
  show sd_J mX1_dig ((l, G), (9, 197), [.ref a0, .int a1], ((sd_ox sd_oI) ρ, h2), cT) 0 [(0, .ref a0), (1, .int a1)] [] h cT
  unfold fX1_dig at hf
  refine sj_aload_n 0 dX1_dig_0 rfl ?_
  refine sj_getR fdX1_54_0 hf dX1_dig_1 (fun v1 hf => ?_)
  refine sj_aload_n 0 dX1_dig_4 rfl ?_
  refine sj_iload_n 1 dX1_dig_5 rfl ?_
  obtain ⟨fs6, he6, hf⟩ := sd_isC_some hf
  refine sj_xI (rest := [.ref v1]) (fun _ _ _ e => sj_runV (n := 1) (As := [.int a1]) (rest := [.ref v1]) (sX1_stacked l hl G a0 a1 h _ _ _ e) he6 rfl rfl rfl rfl q2426 q2428 qs38 q116 q2429 (by decide +kernel) rfl rfl ⟨Nat.le_of_ble_eq_true rfl, Nat.le_of_ble_eq_true rfl⟩ rfl (Nat.le_of_ble_eq_true rfl) dX1_dig_6) hf (fun e6 h c hf => ?_) (fun r2 h c hf => ?_)
  · exact sj_outX hf rfl (by intro x hx; cases hx)
  obtain ⟨fs9, he9, hf⟩ := sd_isC_some hf
  refine sj_cI (rest := []) (fun _ _ _ e => sj_runV (n := 1) (As := [.int r2]) (rest := []) (sX3_dig l G v1 r2 h _ _ _ e) he9 rfl rfl rfl rfl q2235 q2236 q2237 q118 q2238 (by decide +kernel) rfl rfl ⟨Nat.le_of_ble_eq_true rfl, Nat.le_of_ble_eq_true rfl⟩ rfl (Nat.le_of_ble_eq_true rfl) dX1_dig_9) hf (fun r3 h c hf => ?_)
  exact sj_iret (o := (sd_ox sd_oI)) hf rfl rfl rfl dX1_dig_12
/-! SofaDig.prop(I)I -/
abbrev cX1_prop : ByteArray := prog_1_method_42_code
def yX1_prop : MethodName := ⟨RX1, "prop", "(I)I"⟩
def dkwX1_prop_0 : List UInt8 := [42, 180, 0, 54, 42, 27, 182, 0, 142, 182, 0, 210, 184, 0, 63, 42, 180, 0, 54, 182, 0, 139, 172]
abbrev dktX1_prop_0 : List UInt8 := dkwX1_prop_0 ++ []
theorem dksX1_prop_0 : cX1_prop.data.toList.drop 0 = dktX1_prop_0 := by decide +kernel
theorem dX1_prop_0 : decode cX1_prop 0 = .ok (.aload_n 0, 1) := dk_42 (dk_at dksX1_prop_0 0 rfl rfl)
theorem dX1_prop_1 : decode cX1_prop 1 = .ok (.getfield 54, 3) := dk_180 0 54 (dk_at dksX1_prop_0 1 rfl rfl)
theorem dX1_prop_4 : decode cX1_prop 4 = .ok (.aload_n 0, 1) := dk_42 (dk_at dksX1_prop_0 4 rfl rfl)
theorem dX1_prop_5 : decode cX1_prop 5 = .ok (.iload_n 1, 1) := dk_27 (dk_at dksX1_prop_0 5 rfl rfl)
theorem dX1_prop_6 : decode cX1_prop 6 = .ok (.invokevirtual 142, 3) := dk_182 0 142 (dk_at dksX1_prop_0 6 rfl rfl)
theorem dX1_prop_9 : decode cX1_prop 9 = .ok (.invokevirtual 210, 3) := dk_182 0 210 (dk_at dksX1_prop_0 9 rfl rfl)
theorem dX1_prop_12 : decode cX1_prop 12 = .ok (.invokestatic 63, 3) := dk_184 0 63 (dk_at dksX1_prop_0 12 rfl rfl)
theorem dX1_prop_15 : decode cX1_prop 15 = .ok (.aload_n 0, 1) := dk_42 (dk_at dksX1_prop_0 15 rfl rfl)
theorem dX1_prop_16 : decode cX1_prop 16 = .ok (.getfield 54, 3) := dk_180 0 54 (dk_at dksX1_prop_0 16 rfl rfl)
theorem dX1_prop_19 : decode cX1_prop 19 = .ok (.invokevirtual 139, 3) := dk_182 0 139 (dk_at dksX1_prop_0 19 rfl rfl)
theorem dX1_prop_22 : decode cX1_prop 22 = .ok (.ireturn, 1) := dk_172 (dk_at dksX1_prop_0 22 rfl rfl)
abbrev mX1_prop : sd_Y := (yX1_prop, cX1_prop, 2, some (.int), none)
def fX1_prop (G : sd_G) (a0 : Nat) (a1 : Int32) : sd_M (Int32 ⊕ Nat) :=
  sd_bnd (sd_getR G 0 2 a0) fun v1 =>
  sd_bnd (sd_isC G 0 a0) fun _ =>
  sd_bx (fX1_seat G a0 a1) (fun e6 =>
    sd_ret (.inr e6)) fun r2 =>
  sd_bnd (sd_isC G 2 v1) fun _ =>
  sd_bnd (fX3_prop G v1 r2) fun r3 =>
  sd_bx (fX1_requireState G r3) (fun e12 =>
    sd_ret (.inr e12)) fun _ =>
  sd_bnd (sd_getR G 0 2 a0) fun v4 =>
  sd_bnd (sd_isC G 2 v4) fun _ =>
  sd_bnd (fX3_props G v4) fun r5 =>
  sd_ret (.inl r5)
set_option maxHeartbeats 4000000 in
theorem sX1_prop (l : Launch) (hl : l.stackTraces = false) (G : sd_G) (a0 : Nat) (a1 : Int32) (h : sd_H) (ρ : Int32 ⊕ Nat) (cT : Nat × Nat) (h2 : sd_H) (hf : fX1_prop G a0 a1 h = some (ρ, cT, h2)) : sd_Met mX1_prop ((l, G), (8, 123), [.ref a0, .int a1], ((sd_ox sd_oI) ρ, h2), cT) h := by
  refine sd_entry (plainFor_of_name rfl) rfl (Nat.le_of_ble_eq_true rfl) ?_
  show sd_J mX1_prop ((l, G), (8, 123), [.ref a0, .int a1], ((sd_ox sd_oI) ρ, h2), cT) 0 [(0, .ref a0), (1, .int a1)] [] h cT
  unfold fX1_prop at hf
  refine sj_aload_n 0 dX1_prop_0 rfl ?_
  refine sj_getR fdX1_54_0 hf dX1_prop_1 (fun v1 hf => ?_)
  refine sj_aload_n 0 dX1_prop_4 rfl ?_
  refine sj_iload_n 1 dX1_prop_5 rfl ?_
  obtain ⟨fs6, he6, hf⟩ := sd_isC_some hf
  refine sj_xI (rest := [.ref v1]) (fun _ _ _ e => sj_runV (n := 1) (As := [.int a1]) (rest := [.ref v1]) (sX1_seat l hl G a0 a1 h _ _ _ e) he6 rfl rfl rfl rfl q2390 q2392 qs37 q116 q2393 (by decide +kernel) rfl rfl ⟨Nat.le_of_ble_eq_true rfl, Nat.le_of_ble_eq_true rfl⟩ rfl (Nat.le_of_ble_eq_true rfl) dX1_prop_6) hf (fun e6 h c hf => ?_) (fun r2 h c hf => ?_)
  · exact sj_outX hf rfl (by intro x hx; cases hx)
  obtain ⟨fs9, he9, hf⟩ := sd_isC_some hf
  refine sj_cI (rest := []) (fun _ _ _ e => sj_runV (n := 1) (As := [.int r2]) (rest := []) (sX3_prop l G v1 r2 h _ _ _ e) he9 rfl rfl rfl rfl q2562 q2563 q2564 q118 q2565 (by decide +kernel) rfl rfl ⟨Nat.le_of_ble_eq_true rfl, Nat.le_of_ble_eq_true rfl⟩ rfl (Nat.le_of_ble_eq_true rfl) dX1_prop_9) hf (fun r3 h c hf => ?_)
  refine sj_xV (rest := []) (fun _ _ _ e => sj_runS (n := 1) (rest := []) (sX1_requireState l hl G r3 h _ _ _ e) rfl rfl q2320 q2321 q116 q2322 (by decide +kernel) rfl ⟨Nat.le_of_ble_eq_true rfl, Nat.le_of_ble_eq_true rfl⟩ rfl (Nat.le_of_ble_eq_true rfl) dX1_prop_12) hf (fun e12 h c hf => ?_) (fun h c hf => ?_)
  · exact sj_outX hf rfl (by intro x hx; cases hx)
  refine sj_aload_n 0 dX1_prop_15 rfl ?_
  refine sj_getR fdX1_54_0 hf dX1_prop_16 (fun v4 hf => ?_)
  obtain ⟨fs19, he19, hf⟩ := sd_isC_some hf
  refine sj_cI (rest := []) (fun _ _ _ e => sj_runV (n := 0) (As := []) (rest := []) (sX3_props l G v4 h _ _ _ e) he19 rfl rfl rfl rfl q2142 q2143 q2144 q118 q2145 (by decide +kernel) rfl rfl ⟨Nat.le_of_ble_eq_true rfl, Nat.le_of_ble_eq_true rfl⟩ rfl (Nat.le_of_ble_eq_true rfl) dX1_prop_19) hf (fun r5 h c hf => ?_)
  exact sj_iret (o := (sd_ox sd_oI)) hf rfl rfl rfl dX1_prop_22
/-! SofaDig.takeProp(I)I -/
abbrev cX1_takeProp : ByteArray := prog_1_method_43_code
def yX1_takeProp : MethodName := ⟨RX1, "takeProp", "(I)I"⟩
def dkwX1_takeProp_1 : List UInt8 := [42, 180, 0, 54, 180, 0, 130, 28, 100, 172]
abbrev dktX1_takeProp_1 : List UInt8 := dkwX1_takeProp_1 ++ []
def dkwX1_takeProp_0 : List UInt8 := [42, 27, 182, 0, 213, 184, 0, 63, 42, 180, 0, 54, 180, 0, 130, 61, 42, 180, 0, 54, 27, 182, 0, 214]
abbrev dktX1_takeProp_0 : List UInt8 := dkwX1_takeProp_0 ++ dktX1_takeProp_1
theorem dksX1_takeProp_0 : cX1_takeProp.data.toList.drop 0 = dktX1_takeProp_0 := by decide +kernel
theorem dksX1_takeProp_1 : cX1_takeProp.data.toList.drop 24 = dktX1_takeProp_1 := dk_seg dksX1_takeProp_0 24 rfl rfl
theorem dX1_takeProp_0 : decode cX1_takeProp 0 = .ok (.aload_n 0, 1) := dk_42 (dk_at dksX1_takeProp_0 0 rfl rfl)
theorem dX1_takeProp_1 : decode cX1_takeProp 1 = .ok (.iload_n 1, 1) := dk_27 (dk_at dksX1_takeProp_0 1 rfl rfl)
theorem dX1_takeProp_2 : decode cX1_takeProp 2 = .ok (.invokevirtual 213, 3) := dk_182 0 213 (dk_at dksX1_takeProp_0 2 rfl rfl)
theorem dX1_takeProp_5 : decode cX1_takeProp 5 = .ok (.invokestatic 63, 3) := dk_184 0 63 (dk_at dksX1_takeProp_0 5 rfl rfl)
theorem dX1_takeProp_8 : decode cX1_takeProp 8 = .ok (.aload_n 0, 1) := dk_42 (dk_at dksX1_takeProp_0 8 rfl rfl)
theorem dX1_takeProp_9 : decode cX1_takeProp 9 = .ok (.getfield 54, 3) := dk_180 0 54 (dk_at dksX1_takeProp_0 9 rfl rfl)
theorem dX1_takeProp_12 : decode cX1_takeProp 12 = .ok (.getfield 130, 3) := dk_180 0 130 (dk_at dksX1_takeProp_0 12 rfl rfl)
theorem dX1_takeProp_15 : decode cX1_takeProp 15 = .ok (.istore_n 2, 1) := dk_61 (dk_at dksX1_takeProp_0 15 rfl rfl)
theorem dX1_takeProp_16 : decode cX1_takeProp 16 = .ok (.aload_n 0, 1) := dk_42 (dk_at dksX1_takeProp_0 16 rfl rfl)
theorem dX1_takeProp_17 : decode cX1_takeProp 17 = .ok (.getfield 54, 3) := dk_180 0 54 (dk_at dksX1_takeProp_0 17 rfl rfl)
theorem dX1_takeProp_20 : decode cX1_takeProp 20 = .ok (.iload_n 1, 1) := dk_27 (dk_at dksX1_takeProp_0 20 rfl rfl)
theorem dX1_takeProp_21 : decode cX1_takeProp 21 = .ok (.invokevirtual 214, 3) := dk_182 0 214 (dk_at dksX1_takeProp_0 21 rfl rfl)
theorem dX1_takeProp_24 : decode cX1_takeProp 24 = .ok (.aload_n 0, 1) := dk_42 (dk_at dksX1_takeProp_1 0 rfl rfl)
theorem dX1_takeProp_25 : decode cX1_takeProp 25 = .ok (.getfield 54, 3) := dk_180 0 54 (dk_at dksX1_takeProp_1 1 rfl rfl)
theorem dX1_takeProp_28 : decode cX1_takeProp 28 = .ok (.getfield 130, 3) := dk_180 0 130 (dk_at dksX1_takeProp_1 4 rfl rfl)
theorem dX1_takeProp_31 : decode cX1_takeProp 31 = .ok (.iload_n 2, 1) := dk_28 (dk_at dksX1_takeProp_1 7 rfl rfl)
theorem dX1_takeProp_32 : decode cX1_takeProp 32 = .ok (.isub, 1) := dk_100 (dk_at dksX1_takeProp_1 8 rfl rfl)
theorem dX1_takeProp_33 : decode cX1_takeProp 33 = .ok (.ireturn, 1) := dk_172 (dk_at dksX1_takeProp_1 9 rfl rfl)
abbrev mX1_takeProp : sd_Y := (yX1_takeProp, cX1_takeProp, 3, some (.int), none)
def fX1_takeProp (G : sd_G) (a0 : Nat) (a1 : Int32) : sd_M (Int32 ⊕ Nat) :=
  sd_bnd (sd_isC G 0 a0) fun _ =>
  sd_bx (fX1_isPropped G a0 a1) (fun e2 =>
    sd_ret (.inr e2)) fun r1 =>
  sd_bx (fX1_requireState G r1) (fun e5 =>
    sd_ret (.inr e5)) fun _ =>
  sd_bnd (sd_getR G 0 2 a0) fun v2 =>
  sd_bnd (sd_getI G 2 11 v2) fun v3 =>
  sd_bnd (sd_getR G 0 2 a0) fun v4 =>
  sd_bnd (sd_isC G 2 v4) fun _ =>
  sd_bnd (fX3_free G v4 a1) fun _ =>
  sd_bnd (sd_getR G 0 2 a0) fun v5 =>
  sd_bnd (sd_getI G 2 11 v5) fun v6 =>
  sd_ret (.inl (v6 - v3))
set_option maxHeartbeats 4000000 in
theorem sX1_takeProp (l : Launch) (hl : l.stackTraces = false) (G : sd_G) (a0 : Nat) (a1 : Int32) (h : sd_H) (ρ : Int32 ⊕ Nat) (cT : Nat × Nat) (h2 : sd_H) (hf : fX1_takeProp G a0 a1 h = some (ρ, cT, h2)) : sd_Met mX1_takeProp ((l, G), (9, 196), [.ref a0, .int a1], ((sd_ox sd_oI) ρ, h2), cT) h := by
  refine sd_entry (plainFor_of_name rfl) rfl (Nat.le_of_ble_eq_true rfl) ?_
  show sd_J mX1_takeProp ((l, G), (9, 196), [.ref a0, .int a1], ((sd_ox sd_oI) ρ, h2), cT) 0 [(0, .ref a0), (1, .int a1)] [] h cT
  unfold fX1_takeProp at hf
  refine sj_aload_n 0 dX1_takeProp_0 rfl ?_
  refine sj_iload_n 1 dX1_takeProp_1 rfl ?_
  obtain ⟨fs2, he2, hf⟩ := sd_isC_some hf
  refine sj_xI (rest := []) (fun _ _ _ e => sj_runV (n := 1) (As := [.int a1]) (rest := []) (sX1_isPropped l hl G a0 a1 h _ _ _ e) he2 rfl rfl rfl rfl q2574 q2416 q2417 q116 q2418 (by decide +kernel) rfl rfl ⟨Nat.le_of_ble_eq_true rfl, Nat.le_of_ble_eq_true rfl⟩ rfl (Nat.le_of_ble_eq_true rfl) dX1_takeProp_2) hf (fun e2 h c hf => ?_) (fun r1 h c hf => ?_)
  · exact sj_outX hf rfl (by intro x hx; cases hx)
  refine sj_xV (rest := []) (fun _ _ _ e => sj_runS (n := 1) (rest := []) (sX1_requireState l hl G r1 h _ _ _ e) rfl rfl q2320 q2321 q116 q2322 (by decide +kernel) rfl ⟨Nat.le_of_ble_eq_true rfl, Nat.le_of_ble_eq_true rfl⟩ rfl (Nat.le_of_ble_eq_true rfl) dX1_takeProp_5) hf (fun e5 h c hf => ?_) (fun h c hf => ?_)
  · exact sj_outX hf rfl (by intro x hx; cases hx)
  refine sj_aload_n 0 dX1_takeProp_8 rfl ?_
  refine sj_getR fdX1_54_0 hf dX1_takeProp_9 (fun v2 hf => ?_)
  refine sj_getI fdX1_130_2 hf dX1_takeProp_12 (fun v3 hf => ?_)
  refine sj_istore_n [(2, .int v3), (0, .ref a0), (1, .int a1)] dX1_takeProp_15 (by decide) rfl ?_
  refine sj_aload_n 1 dX1_takeProp_16 rfl ?_
  refine sj_getR fdX1_54_0 hf dX1_takeProp_17 (fun v4 hf => ?_)
  refine sj_iload_n 2 dX1_takeProp_20 rfl ?_
  obtain ⟨fs21, he21, hf⟩ := sd_isC_some hf
  refine sj_cV (rest := []) (fun _ _ _ e => sj_runV (n := 1) (As := [.int a1]) (rest := []) (sX3_free l G v4 a1 h _ _ _ e) he21 rfl rfl rfl rfl q2575 q2576 q2577 q118 q2578 (by decide +kernel) rfl rfl ⟨Nat.le_of_ble_eq_true rfl, Nat.le_of_ble_eq_true rfl⟩ rfl (Nat.le_of_ble_eq_true rfl) dX1_takeProp_21) hf (fun h c hf => ?_)
  refine sj_aload_n 1 dX1_takeProp_24 rfl ?_
  refine sj_getR fdX1_54_0 hf dX1_takeProp_25 (fun v5 hf => ?_)
  refine sj_getI fdX1_130_2 hf dX1_takeProp_28 (fun v6 hf => ?_)
  refine sj_iload_n 0 dX1_takeProp_31 rfl ?_
  refine sj_isub dX1_takeProp_32 ?_
  exact sj_iret (o := (sd_ox sd_oI)) hf rfl rfl rfl dX1_takeProp_33
/-! SofaDig.passDays(I)I -/
abbrev cX1_passDays : ByteArray := prog_1_method_44_code
def yX1_passDays : MethodName := ⟨RX1, "passDays", "(I)I"⟩
def dkwX1_passDays_1 : List UInt8 := [180, 0, 54, 182, 0, 133, 28, 100, 172]
abbrev dktX1_passDays_1 : List UInt8 := dkwX1_passDays_1 ++ []
def dkwX1_passDays_0 : List UInt8 := [4, 16, 30, 27, 184, 0, 70, 42, 180, 0, 54, 182, 0, 133, 61, 42, 180, 0, 54, 27, 182, 0, 217, 42]
abbrev dktX1_passDays_0 : List UInt8 := dkwX1_passDays_0 ++ dktX1_passDays_1
theorem dksX1_passDays_0 : cX1_passDays.data.toList.drop 0 = dktX1_passDays_0 := by decide +kernel
theorem dksX1_passDays_1 : cX1_passDays.data.toList.drop 24 = dktX1_passDays_1 := dk_seg dksX1_passDays_0 24 rfl rfl
theorem dX1_passDays_0 : decode cX1_passDays 0 = .ok (.iconst 1, 1) := dk_4 (dk_at dksX1_passDays_0 0 rfl rfl)
theorem dX1_passDays_1 : decode cX1_passDays 1 = .ok (.bipush 30, 2) := dk_16 30 (dk_at dksX1_passDays_0 1 rfl rfl)
theorem dX1_passDays_3 : decode cX1_passDays 3 = .ok (.iload_n 1, 1) := dk_27 (dk_at dksX1_passDays_0 3 rfl rfl)
theorem dX1_passDays_4 : decode cX1_passDays 4 = .ok (.invokestatic 70, 3) := dk_184 0 70 (dk_at dksX1_passDays_0 4 rfl rfl)
theorem dX1_passDays_7 : decode cX1_passDays 7 = .ok (.aload_n 0, 1) := dk_42 (dk_at dksX1_passDays_0 7 rfl rfl)
theorem dX1_passDays_8 : decode cX1_passDays 8 = .ok (.getfield 54, 3) := dk_180 0 54 (dk_at dksX1_passDays_0 8 rfl rfl)
theorem dX1_passDays_11 : decode cX1_passDays 11 = .ok (.invokevirtual 133, 3) := dk_182 0 133 (dk_at dksX1_passDays_0 11 rfl rfl)
theorem dX1_passDays_14 : decode cX1_passDays 14 = .ok (.istore_n 2, 1) := dk_61 (dk_at dksX1_passDays_0 14 rfl rfl)
theorem dX1_passDays_15 : decode cX1_passDays 15 = .ok (.aload_n 0, 1) := dk_42 (dk_at dksX1_passDays_0 15 rfl rfl)
theorem dX1_passDays_16 : decode cX1_passDays 16 = .ok (.getfield 54, 3) := dk_180 0 54 (dk_at dksX1_passDays_0 16 rfl rfl)
theorem dX1_passDays_19 : decode cX1_passDays 19 = .ok (.iload_n 1, 1) := dk_27 (dk_at dksX1_passDays_0 19 rfl rfl)
theorem dX1_passDays_20 : decode cX1_passDays 20 = .ok (.invokevirtual 217, 3) := dk_182 0 217 (dk_at dksX1_passDays_0 20 rfl rfl)
theorem dX1_passDays_23 : decode cX1_passDays 23 = .ok (.aload_n 0, 1) := dk_42 (dk_at dksX1_passDays_0 23 rfl rfl)
theorem dX1_passDays_24 : decode cX1_passDays 24 = .ok (.getfield 54, 3) := dk_180 0 54 (dk_at dksX1_passDays_1 0 rfl rfl)
theorem dX1_passDays_27 : decode cX1_passDays 27 = .ok (.invokevirtual 133, 3) := dk_182 0 133 (dk_at dksX1_passDays_1 3 rfl rfl)
theorem dX1_passDays_30 : decode cX1_passDays 30 = .ok (.iload_n 2, 1) := dk_28 (dk_at dksX1_passDays_1 6 rfl rfl)
theorem dX1_passDays_31 : decode cX1_passDays 31 = .ok (.isub, 1) := dk_100 (dk_at dksX1_passDays_1 7 rfl rfl)
theorem dX1_passDays_32 : decode cX1_passDays 32 = .ok (.ireturn, 1) := dk_172 (dk_at dksX1_passDays_1 8 rfl rfl)
abbrev mX1_passDays : sd_Y := (yX1_passDays, cX1_passDays, 3, some (.int), none)
def fX1_passDays (G : sd_G) (a0 : Nat) (a1 : Int32) : sd_M (Int32 ⊕ Nat) :=
  sd_bx (fX1_requireFrom G 1 30 a1) (fun e4 =>
    sd_ret (.inr e4)) fun _ =>
  sd_bnd (sd_getR G 0 2 a0) fun v1 =>
  sd_bnd (sd_isC G 2 v1) fun _ =>
  sd_bnd (fX3_found G v1) fun r2 =>
  sd_bnd (sd_getR G 0 2 a0) fun v3 =>
  sd_bnd (sd_isC G 2 v3) fun _ =>
  sd_bnd (fX3_pass G v3 a1) fun _ =>
  sd_bnd (sd_getR G 0 2 a0) fun v4 =>
  sd_bnd (sd_isC G 2 v4) fun _ =>
  sd_bnd (fX3_found G v4) fun r5 =>
  sd_ret (.inl (r5 - r2))
set_option maxHeartbeats 4000000 in
theorem sX1_passDays (l : Launch) (hl : l.stackTraces = false) (G : sd_G) (a0 : Nat) (a1 : Int32) (h : sd_H) (ρ : Int32 ⊕ Nat) (cT : Nat × Nat) (h2 : sd_H) (hf : fX1_passDays G a0 a1 h = some (ρ, cT, h2)) : sd_Met mX1_passDays ((l, G), (506, 15227), [.ref a0, .int a1], ((sd_ox sd_oI) ρ, h2), cT) h := by
  refine sd_entry (plainFor_of_name rfl) rfl (Nat.le_of_ble_eq_true rfl) ?_
  show sd_J mX1_passDays ((l, G), (506, 15227), [.ref a0, .int a1], ((sd_ox sd_oI) ρ, h2), cT) 0 [(0, .ref a0), (1, .int a1)] [] h cT
  unfold fX1_passDays at hf
  refine sj_iconst (v := 1) dX1_passDays_0 (by decide) ?_
  refine sj_bipush (v := 30) dX1_passDays_1 (by decide) ?_
  refine sj_iload_n 1 dX1_passDays_3 rfl ?_
  refine sj_xV (rest := []) (fun _ _ _ e => sj_runS (n := 3) (rest := []) (sX1_requireFrom l hl G 1 30 a1 h _ _ _ e) rfl rfl q2353 q2354 q116 q2355 (by decide +kernel) rfl ⟨Nat.le_of_ble_eq_true rfl, Nat.le_of_ble_eq_true rfl⟩ rfl (Nat.le_of_ble_eq_true rfl) dX1_passDays_4) hf (fun e4 h c hf => ?_) (fun h c hf => ?_)
  · exact sj_outX hf rfl (by intro x hx; cases hx)
  refine sj_aload_n 0 dX1_passDays_7 rfl ?_
  refine sj_getR fdX1_54_0 hf dX1_passDays_8 (fun v1 hf => ?_)
  obtain ⟨fs11, he11, hf⟩ := sd_isC_some hf
  refine sj_cI (rest := []) (fun _ _ _ e => sj_runV (n := 0) (As := []) (rest := []) (sX3_found l G v1 h _ _ _ e) he11 rfl rfl rfl rfl q2125 q2126 q2127 q118 q2128 (by decide +kernel) rfl rfl ⟨Nat.le_of_ble_eq_true rfl, Nat.le_of_ble_eq_true rfl⟩ rfl (Nat.le_of_ble_eq_true rfl) dX1_passDays_11) hf (fun r2 h c hf => ?_)
  refine sj_istore_n [(2, .int r2), (0, .ref a0), (1, .int a1)] dX1_passDays_14 (by decide) rfl ?_
  refine sj_aload_n 1 dX1_passDays_15 rfl ?_
  refine sj_getR fdX1_54_0 hf dX1_passDays_16 (fun v3 hf => ?_)
  refine sj_iload_n 2 dX1_passDays_19 rfl ?_
  obtain ⟨fs20, he20, hf⟩ := sd_isC_some hf
  refine sj_cV (rest := []) (fun _ _ _ e => sj_runV (n := 1) (As := [.int a1]) (rest := []) (sX3_pass l G v3 a1 h _ _ _ e) he20 rfl rfl rfl rfl q2586 q2587 q2588 q118 q2589 (by decide +kernel) rfl rfl ⟨Nat.le_of_ble_eq_true rfl, Nat.le_of_ble_eq_true rfl⟩ rfl (Nat.le_of_ble_eq_true rfl) dX1_passDays_20) hf (fun h c hf => ?_)
  refine sj_aload_n 1 dX1_passDays_23 rfl ?_
  refine sj_getR fdX1_54_0 hf dX1_passDays_24 (fun v4 hf => ?_)
  obtain ⟨fs27, he27, hf⟩ := sd_isC_some hf
  refine sj_cI (rest := []) (fun _ _ _ e => sj_runV (n := 0) (As := []) (rest := []) (sX3_found l G v4 h _ _ _ e) he27 rfl rfl rfl rfl q2125 q2126 q2127 q118 q2128 (by decide +kernel) rfl rfl ⟨Nat.le_of_ble_eq_true rfl, Nat.le_of_ble_eq_true rfl⟩ rfl (Nat.le_of_ble_eq_true rfl) dX1_passDays_27) hf (fun r5 h c hf => ?_)
  refine sj_iload_n 0 dX1_passDays_30 rfl ?_
  refine sj_isub dX1_passDays_31 ?_
  exact sj_iret (o := (sd_ox sd_oI)) hf rfl rfl rfl dX1_passDays_32
/-! SofaDig.foundAfter(I)I -/
abbrev cX1_foundAfter : ByteArray := prog_1_method_45_code
def yX1_foundAfter : MethodName := ⟨RX1, "foundAfter", "(I)I"⟩
def dkwX1_foundAfter_1 : List UInt8 := [180, 0, 58, 182, 0, 133, 172]
abbrev dktX1_foundAfter_1 : List UInt8 := dkwX1_foundAfter_1 ++ []
def dkwX1_foundAfter_0 : List UInt8 := [4, 16, 30, 27, 184, 0, 70, 42, 180, 0, 58, 42, 180, 0, 54, 182, 0, 220, 27, 182, 0, 217, 42]
abbrev dktX1_foundAfter_0 : List UInt8 := dkwX1_foundAfter_0 ++ dktX1_foundAfter_1
theorem dksX1_foundAfter_0 : cX1_foundAfter.data.toList.drop 0 = dktX1_foundAfter_0 := by decide +kernel
theorem dksX1_foundAfter_1 : cX1_foundAfter.data.toList.drop 23 = dktX1_foundAfter_1 := dk_seg dksX1_foundAfter_0 23 rfl rfl
theorem dX1_foundAfter_0 : decode cX1_foundAfter 0 = .ok (.iconst 1, 1) := dk_4 (dk_at dksX1_foundAfter_0 0 rfl rfl)
theorem dX1_foundAfter_1 : decode cX1_foundAfter 1 = .ok (.bipush 30, 2) := dk_16 30 (dk_at dksX1_foundAfter_0 1 rfl rfl)
theorem dX1_foundAfter_3 : decode cX1_foundAfter 3 = .ok (.iload_n 1, 1) := dk_27 (dk_at dksX1_foundAfter_0 3 rfl rfl)
theorem dX1_foundAfter_4 : decode cX1_foundAfter 4 = .ok (.invokestatic 70, 3) := dk_184 0 70 (dk_at dksX1_foundAfter_0 4 rfl rfl)
theorem dX1_foundAfter_7 : decode cX1_foundAfter 7 = .ok (.aload_n 0, 1) := dk_42 (dk_at dksX1_foundAfter_0 7 rfl rfl)
theorem dX1_foundAfter_8 : decode cX1_foundAfter 8 = .ok (.getfield 58, 3) := dk_180 0 58 (dk_at dksX1_foundAfter_0 8 rfl rfl)
theorem dX1_foundAfter_11 : decode cX1_foundAfter 11 = .ok (.aload_n 0, 1) := dk_42 (dk_at dksX1_foundAfter_0 11 rfl rfl)
theorem dX1_foundAfter_12 : decode cX1_foundAfter 12 = .ok (.getfield 54, 3) := dk_180 0 54 (dk_at dksX1_foundAfter_0 12 rfl rfl)
theorem dX1_foundAfter_15 : decode cX1_foundAfter 15 = .ok (.invokevirtual 220, 3) := dk_182 0 220 (dk_at dksX1_foundAfter_0 15 rfl rfl)
theorem dX1_foundAfter_18 : decode cX1_foundAfter 18 = .ok (.iload_n 1, 1) := dk_27 (dk_at dksX1_foundAfter_0 18 rfl rfl)
theorem dX1_foundAfter_19 : decode cX1_foundAfter 19 = .ok (.invokevirtual 217, 3) := dk_182 0 217 (dk_at dksX1_foundAfter_0 19 rfl rfl)
theorem dX1_foundAfter_22 : decode cX1_foundAfter 22 = .ok (.aload_n 0, 1) := dk_42 (dk_at dksX1_foundAfter_0 22 rfl rfl)
theorem dX1_foundAfter_23 : decode cX1_foundAfter 23 = .ok (.getfield 58, 3) := dk_180 0 58 (dk_at dksX1_foundAfter_1 0 rfl rfl)
theorem dX1_foundAfter_26 : decode cX1_foundAfter 26 = .ok (.invokevirtual 133, 3) := dk_182 0 133 (dk_at dksX1_foundAfter_1 3 rfl rfl)
theorem dX1_foundAfter_29 : decode cX1_foundAfter 29 = .ok (.ireturn, 1) := dk_172 (dk_at dksX1_foundAfter_1 6 rfl rfl)
abbrev mX1_foundAfter : sd_Y := (yX1_foundAfter, cX1_foundAfter, 2, some (.int), none)
def fX1_foundAfter (G : sd_G) (a0 : Nat) (a1 : Int32) : sd_M (Int32 ⊕ Nat) :=
  sd_bx (fX1_requireFrom G 1 30 a1) (fun e4 =>
    sd_ret (.inr e4)) fun _ =>
  sd_bnd (sd_getR G 0 3 a0) fun v1 =>
  sd_bnd (sd_getR G 0 2 a0) fun v2 =>
  sd_bnd (sd_isC G 2 v1) fun _ =>
  sd_bnd (fX3_take G v1 v2) fun r3 =>
  sd_bnd (sd_isC G 2 r3) fun _ =>
  sd_bnd (fX3_pass G r3 a1) fun _ =>
  sd_bnd (sd_getR G 0 3 a0) fun v4 =>
  sd_bnd (sd_isC G 2 v4) fun _ =>
  sd_bnd (fX3_found G v4) fun r5 =>
  sd_ret (.inl r5)
set_option maxHeartbeats 4000000 in
theorem sX1_foundAfter (l : Launch) (hl : l.stackTraces = false) (G : sd_G) (a0 : Nat) (a1 : Int32) (h : sd_H) (ρ : Int32 ⊕ Nat) (cT : Nat × Nat) (h2 : sd_H) (hf : fX1_foundAfter G a0 a1 h = some (ρ, cT, h2)) : sd_Met mX1_foundAfter ((l, G), (506, 15227), [.ref a0, .int a1], ((sd_ox sd_oI) ρ, h2), cT) h := by
  refine sd_entry (plainFor_of_name rfl) rfl (Nat.le_of_ble_eq_true rfl) ?_
  show sd_J mX1_foundAfter ((l, G), (506, 15227), [.ref a0, .int a1], ((sd_ox sd_oI) ρ, h2), cT) 0 [(0, .ref a0), (1, .int a1)] [] h cT
  unfold fX1_foundAfter at hf
  refine sj_iconst (v := 1) dX1_foundAfter_0 (by decide) ?_
  refine sj_bipush (v := 30) dX1_foundAfter_1 (by decide) ?_
  refine sj_iload_n 1 dX1_foundAfter_3 rfl ?_
  refine sj_xV (rest := []) (fun _ _ _ e => sj_runS (n := 3) (rest := []) (sX1_requireFrom l hl G 1 30 a1 h _ _ _ e) rfl rfl q2353 q2354 q116 q2355 (by decide +kernel) rfl ⟨Nat.le_of_ble_eq_true rfl, Nat.le_of_ble_eq_true rfl⟩ rfl (Nat.le_of_ble_eq_true rfl) dX1_foundAfter_4) hf (fun e4 h c hf => ?_) (fun h c hf => ?_)
  · exact sj_outX hf rfl (by intro x hx; cases hx)
  refine sj_aload_n 0 dX1_foundAfter_7 rfl ?_
  refine sj_getR fdX1_58_0 hf dX1_foundAfter_8 (fun v1 hf => ?_)
  refine sj_aload_n 0 dX1_foundAfter_11 rfl ?_
  refine sj_getR fdX1_54_0 hf dX1_foundAfter_12 (fun v2 hf => ?_)
  obtain ⟨fs15, he15, hf⟩ := sd_isC_some hf
  refine sj_cR (rest := []) (fun _ _ _ e => sj_runV (n := 1) (As := [.ref v2]) (rest := []) (sX3_take l G v1 v2 h _ _ _ e) he15 rfl rfl rfl rfl q2163 q2164 q2165 q118 q2166 (by decide +kernel) rfl rfl ⟨Nat.le_of_ble_eq_true rfl, Nat.le_of_ble_eq_true rfl⟩ rfl (Nat.le_of_ble_eq_true rfl) dX1_foundAfter_15) hf (fun r3 h c hf => ?_)
  refine sj_iload_n 1 dX1_foundAfter_18 rfl ?_
  obtain ⟨fs19, he19, hf⟩ := sd_isC_some hf
  refine sj_cV (rest := []) (fun _ _ _ e => sj_runV (n := 1) (As := [.int a1]) (rest := []) (sX3_pass l G r3 a1 h _ _ _ e) he19 rfl rfl rfl rfl q2586 q2587 q2588 q118 q2589 (by decide +kernel) rfl rfl ⟨Nat.le_of_ble_eq_true rfl, Nat.le_of_ble_eq_true rfl⟩ rfl (Nat.le_of_ble_eq_true rfl) dX1_foundAfter_19) hf (fun h c hf => ?_)
  refine sj_aload_n 0 dX1_foundAfter_22 rfl ?_
  refine sj_getR fdX1_58_0 hf dX1_foundAfter_23 (fun v4 hf => ?_)
  obtain ⟨fs26, he26, hf⟩ := sd_isC_some hf
  refine sj_cI (rest := []) (fun _ _ _ e => sj_runV (n := 0) (As := []) (rest := []) (sX3_found l G v4 h _ _ _ e) he26 rfl rfl rfl rfl q2125 q2126 q2127 q118 q2128 (by decide +kernel) rfl rfl ⟨Nat.le_of_ble_eq_true rfl, Nat.le_of_ble_eq_true rfl⟩ rfl (Nat.le_of_ble_eq_true rfl) dX1_foundAfter_26) hf (fun r5 h c hf => ?_)
  exact sj_iret (o := (sd_ox sd_oI)) hf rfl rfl rfl dX1_foundAfter_29
/-! SofaDig.daysUntilFound(I)I -/
abbrev cX1_daysUntilFound : ByteArray := prog_1_method_46_code
def yX1_daysUntilFound : MethodName := ⟨RX1, "daysUntilFound", "(I)I"⟩
def dkwX1_daysUntilFound_2 : List UInt8 := [28, 172, 42, 180, 0, 58, 4, 182, 0, 217, 132, 2, 1, 167, 255, 225, 2, 172]
abbrev dktX1_daysUntilFound_2 : List UInt8 := dkwX1_daysUntilFound_2 ++ []
def dkwX1_daysUntilFound_1 : List UInt8 := [182, 0, 220, 87, 3, 61, 28, 16, 30, 163, 0, 31, 42, 180, 0, 58, 180, 0, 178, 27, 46, 153, 0, 5]
abbrev dktX1_daysUntilFound_1 : List UInt8 := dkwX1_daysUntilFound_1 ++ dktX1_daysUntilFound_2
def dkwX1_daysUntilFound_0 : List UInt8 := [27, 42, 180, 0, 54, 180, 0, 109, 182, 0, 118, 184, 0, 25, 42, 180, 0, 58, 42, 180, 0, 54]
abbrev dktX1_daysUntilFound_0 : List UInt8 := dkwX1_daysUntilFound_0 ++ dktX1_daysUntilFound_1
theorem dksX1_daysUntilFound_0 : cX1_daysUntilFound.data.toList.drop 0 = dktX1_daysUntilFound_0 := by decide +kernel
theorem dksX1_daysUntilFound_1 : cX1_daysUntilFound.data.toList.drop 22 = dktX1_daysUntilFound_1 := dk_seg dksX1_daysUntilFound_0 22 rfl rfl
theorem dksX1_daysUntilFound_2 : cX1_daysUntilFound.data.toList.drop 46 = dktX1_daysUntilFound_2 := dk_seg dksX1_daysUntilFound_1 24 rfl rfl
theorem dX1_daysUntilFound_0 : decode cX1_daysUntilFound 0 = .ok (.iload_n 1, 1) := dk_27 (dk_at dksX1_daysUntilFound_0 0 rfl rfl)
theorem dX1_daysUntilFound_1 : decode cX1_daysUntilFound 1 = .ok (.aload_n 0, 1) := dk_42 (dk_at dksX1_daysUntilFound_0 1 rfl rfl)
theorem dX1_daysUntilFound_2 : decode cX1_daysUntilFound 2 = .ok (.getfield 54, 3) := dk_180 0 54 (dk_at dksX1_daysUntilFound_0 2 rfl rfl)
theorem dX1_daysUntilFound_5 : decode cX1_daysUntilFound 5 = .ok (.getfield 109, 3) := dk_180 0 109 (dk_at dksX1_daysUntilFound_0 5 rfl rfl)
theorem dX1_daysUntilFound_8 : decode cX1_daysUntilFound 8 = .ok (.invokevirtual 118, 3) := dk_182 0 118 (dk_at dksX1_daysUntilFound_0 8 rfl rfl)
theorem dX1_daysUntilFound_11 : decode cX1_daysUntilFound 11 = .ok (.invokestatic 25, 3) := dk_184 0 25 (dk_at dksX1_daysUntilFound_0 11 rfl rfl)
theorem dX1_daysUntilFound_14 : decode cX1_daysUntilFound 14 = .ok (.aload_n 0, 1) := dk_42 (dk_at dksX1_daysUntilFound_0 14 rfl rfl)
theorem dX1_daysUntilFound_15 : decode cX1_daysUntilFound 15 = .ok (.getfield 58, 3) := dk_180 0 58 (dk_at dksX1_daysUntilFound_0 15 rfl rfl)
theorem dX1_daysUntilFound_18 : decode cX1_daysUntilFound 18 = .ok (.aload_n 0, 1) := dk_42 (dk_at dksX1_daysUntilFound_0 18 rfl rfl)
theorem dX1_daysUntilFound_19 : decode cX1_daysUntilFound 19 = .ok (.getfield 54, 3) := dk_180 0 54 (dk_at dksX1_daysUntilFound_0 19 rfl rfl)
theorem dX1_daysUntilFound_22 : decode cX1_daysUntilFound 22 = .ok (.invokevirtual 220, 3) := dk_182 0 220 (dk_at dksX1_daysUntilFound_1 0 rfl rfl)
theorem dX1_daysUntilFound_25 : decode cX1_daysUntilFound 25 = .ok (.pop, 1) := dk_87 (dk_at dksX1_daysUntilFound_1 3 rfl rfl)
theorem dX1_daysUntilFound_26 : decode cX1_daysUntilFound 26 = .ok (.iconst 0, 1) := dk_3 (dk_at dksX1_daysUntilFound_1 4 rfl rfl)
theorem dX1_daysUntilFound_27 : decode cX1_daysUntilFound 27 = .ok (.istore_n 2, 1) := dk_61 (dk_at dksX1_daysUntilFound_1 5 rfl rfl)
theorem dX1_daysUntilFound_28 : decode cX1_daysUntilFound 28 = .ok (.iload_n 2, 1) := dk_28 (dk_at dksX1_daysUntilFound_1 6 rfl rfl)
theorem dX1_daysUntilFound_29 : decode cX1_daysUntilFound 29 = .ok (.bipush 30, 2) := dk_16 30 (dk_at dksX1_daysUntilFound_1 7 rfl rfl)
theorem dX1_daysUntilFound_31 : decode cX1_daysUntilFound 31 = .ok (.if_icmp .gt 31, 3) := dk_163 0 31 (dk_at dksX1_daysUntilFound_1 9 rfl rfl)
theorem dX1_daysUntilFound_34 : decode cX1_daysUntilFound 34 = .ok (.aload_n 0, 1) := dk_42 (dk_at dksX1_daysUntilFound_1 12 rfl rfl)
theorem dX1_daysUntilFound_35 : decode cX1_daysUntilFound 35 = .ok (.getfield 58, 3) := dk_180 0 58 (dk_at dksX1_daysUntilFound_1 13 rfl rfl)
theorem dX1_daysUntilFound_38 : decode cX1_daysUntilFound 38 = .ok (.getfield 178, 3) := dk_180 0 178 (dk_at dksX1_daysUntilFound_1 16 rfl rfl)
theorem dX1_daysUntilFound_41 : decode cX1_daysUntilFound 41 = .ok (.iload_n 1, 1) := dk_27 (dk_at dksX1_daysUntilFound_1 19 rfl rfl)
theorem dX1_daysUntilFound_42 : decode cX1_daysUntilFound 42 = .ok (.iaload, 1) := dk_46 (dk_at dksX1_daysUntilFound_1 20 rfl rfl)
theorem dX1_daysUntilFound_43 : decode cX1_daysUntilFound 43 = .ok (.ifCond .eq 5, 3) := dk_153 0 5 (dk_at dksX1_daysUntilFound_1 21 rfl rfl)
theorem dX1_daysUntilFound_46 : decode cX1_daysUntilFound 46 = .ok (.iload_n 2, 1) := dk_28 (dk_at dksX1_daysUntilFound_2 0 rfl rfl)
theorem dX1_daysUntilFound_47 : decode cX1_daysUntilFound 47 = .ok (.ireturn, 1) := dk_172 (dk_at dksX1_daysUntilFound_2 1 rfl rfl)
theorem dX1_daysUntilFound_48 : decode cX1_daysUntilFound 48 = .ok (.aload_n 0, 1) := dk_42 (dk_at dksX1_daysUntilFound_2 2 rfl rfl)
theorem dX1_daysUntilFound_49 : decode cX1_daysUntilFound 49 = .ok (.getfield 58, 3) := dk_180 0 58 (dk_at dksX1_daysUntilFound_2 3 rfl rfl)
theorem dX1_daysUntilFound_52 : decode cX1_daysUntilFound 52 = .ok (.iconst 1, 1) := dk_4 (dk_at dksX1_daysUntilFound_2 6 rfl rfl)
theorem dX1_daysUntilFound_53 : decode cX1_daysUntilFound 53 = .ok (.invokevirtual 217, 3) := dk_182 0 217 (dk_at dksX1_daysUntilFound_2 7 rfl rfl)
theorem dX1_daysUntilFound_56 : decode cX1_daysUntilFound 56 = .ok (.iinc 2 1, 3) := dk_132 2 1 (dk_at dksX1_daysUntilFound_2 10 rfl rfl)
theorem dX1_daysUntilFound_59 : decode cX1_daysUntilFound 59 = .ok (.goto (-31), 3) := dk_167 255 225 (dk_at dksX1_daysUntilFound_2 13 rfl rfl)
theorem dX1_daysUntilFound_62 : decode cX1_daysUntilFound 62 = .ok (.iconst (-1), 1) := dk_2 (dk_at dksX1_daysUntilFound_2 16 rfl rfl)
theorem dX1_daysUntilFound_63 : decode cX1_daysUntilFound 63 = .ok (.ireturn, 1) := dk_172 (dk_at dksX1_daysUntilFound_2 17 rfl rfl)
abbrev mX1_daysUntilFound : sd_Y := (yX1_daysUntilFound, cX1_daysUntilFound, 3, some (.int), none)
def fX1_daysUntilFound_b28 (G : sd_G) (k28 : Nat × Int32 × Int32 → sd_M (Int32 ⊕ Nat)) (w0 : Nat) (w1 : Int32) (w2 : Int32) : sd_M (Int32 ⊕ Nat) :=
  if 30 < w2 then (
    sd_ret (.inl (-1)))
  else (
    sd_bnd (sd_getR G 0 3 w0) fun v7 =>
    sd_bnd (sd_getR G 2 6 v7) fun v8 =>
    sd_bnd (sd_aldI G 0 v8 w1) fun v9 =>
    if v9 = 0 then (
      sd_bnd (sd_getR G 0 3 w0) fun v10 =>
      sd_bnd (sd_isC G 2 v10) fun _ =>
      sd_bnd (fX3_pass G v10 1) fun _ =>
      sd_bnd (sd_ret (w2 + 1)) fun x11 =>
      k28 (w0, w1, x11))
    else (
      sd_ret (.inl w2)))
set_option maxHeartbeats 4000000 in
theorem sX1_daysUntilFound_b28 (l : Launch) (hl : l.stackTraces = false) (G : sd_G) (a0 : Nat) (a1 : Int32) (ρ : Int32 ⊕ Nat) (h2 : sd_H) (cT : Nat × Nat) (k28 : Nat × Int32 × Int32 → sd_M (Int32 ⊕ Nat)) (Hk28 : ∀ (q : Nat × Int32 × Int32) (h : sd_H) (c : Nat × Nat), k28 q h = some (ρ, c, h2) → sd_J mX1_daysUntilFound ((l, G), (506, 15227), [.ref a0, .int a1], ((sd_ox sd_oI) ρ, h2), cT) 28 [(0, .ref q.1), (1, .int q.2.1), (2, .int q.2.2)] [] h c) (w0 : Nat) (w1 : Int32) (w2 : Int32) (h : sd_H) (c : Nat × Nat) (hf : fX1_daysUntilFound_b28 G k28 w0 w1 w2 h = some (ρ, c, h2)) : sd_J mX1_daysUntilFound ((l, G), (506, 15227), [.ref a0, .int a1], ((sd_ox sd_oI) ρ, h2), cT) 28 [(0, .ref w0), (1, .int w1), (2, .int w2)] [] h c := by
  unfold fX1_daysUntilFound_b28 at hf
  refine sj_iload_n 2 dX1_daysUntilFound_28 rfl ?_
  refine sj_bipush (v := 30) dX1_daysUntilFound_29 (by decide) ?_
  refine sj_icgt 62 hf dX1_daysUntilFound_31 (by decide) (fun g31 hf => ?_) (fun g31 hf => ?_)
  · refine sj_iconst (v := (-1)) dX1_daysUntilFound_62 (by decide) ?_
    exact sj_iret (o := (sd_ox sd_oI)) hf rfl rfl rfl dX1_daysUntilFound_63
  · refine sj_aload_n 0 dX1_daysUntilFound_34 rfl ?_
    refine sj_getR fdX1_58_0 hf dX1_daysUntilFound_35 (fun v7 hf => ?_)
    refine sj_getR fdX1_178_2 hf dX1_daysUntilFound_38 (fun v8 hf => ?_)
    refine sj_iload_n 1 dX1_daysUntilFound_41 rfl ?_
    refine sj_iald hf dX1_daysUntilFound_42 (fun v9 hf => ?_)
    refine sj_ifeq 48 hf dX1_daysUntilFound_43 (by decide) (fun g43 hf => ?_) (fun g43 hf => ?_)
    · refine sj_aload_n 0 dX1_daysUntilFound_48 rfl ?_
      refine sj_getR fdX1_58_0 hf dX1_daysUntilFound_49 (fun v10 hf => ?_)
      refine sj_iconst (v := 1) dX1_daysUntilFound_52 (by decide) ?_
      obtain ⟨fs53, he53, hf⟩ := sd_isC_some hf
      refine sj_cV (rest := []) (fun _ _ _ e => sj_runV (n := 1) (As := [.int 1]) (rest := []) (sX3_pass l G v10 1 h _ _ _ e) he53 rfl rfl rfl rfl q2586 q2587 q2588 q118 q2589 (by decide +kernel) rfl rfl ⟨Nat.le_of_ble_eq_true rfl, Nat.le_of_ble_eq_true rfl⟩ rfl (Nat.le_of_ble_eq_true rfl) dX1_daysUntilFound_53) hf (fun h c hf => ?_)
      refine sj_iincN 2 (fun x11 => [(2, .int x11), (0, .ref w0), (1, .int w1)]) 1 hf dX1_daysUntilFound_56 rfl (by decide) (by decide) (fun _ => rfl) (fun x11 hf => ?_)
      refine sj_goto 28 dX1_daysUntilFound_59 (by decide) ?_
      exact sj_loc [1, 2, 0] rfl (Hk28 (w0, w1, x11) _ _ hf)
    · refine sj_iload_n 2 dX1_daysUntilFound_46 rfl ?_
      exact sj_iret (o := (sd_ox sd_oI)) hf rfl rfl rfl dX1_daysUntilFound_47
theorem sX1_daysUntilFound_b28_loop (l : Launch) (hl : l.stackTraces = false) (G : sd_G) (a0 : Nat) (a1 : Int32) (ρ : Int32 ⊕ Nat) (h2 : sd_H) (cT : Nat × Nat) (n : Nat) : ∀ (q : Nat × Int32 × Int32) (h : sd_H) (c : Nat × Nat), sd_loop (fun k s => fX1_daysUntilFound_b28 G k s.1 s.2.1 s.2.2) n q h = some (ρ, c, h2) → sd_J mX1_daysUntilFound ((l, G), (506, 15227), [.ref a0, .int a1], ((sd_ox sd_oI) ρ, h2), cT) 28 [(0, .ref q.1), (1, .int q.2.1), (2, .int q.2.2)] [] h c := by
  induction n with
  | zero => intro q h c hf; cases hf
  | succ n ih => intro q h c hf; exact sX1_daysUntilFound_b28 l hl G a0 a1 ρ h2 cT _ ih _ _ _ _ _ hf
def fX1_daysUntilFound (G : sd_G) (a0 : Nat) (a1 : Int32) : sd_M (Int32 ⊕ Nat) :=
  sd_bnd (sd_getR G 0 2 a0) fun v1 =>
  sd_bnd (sd_getR G 2 4 v1) fun v2 =>
  sd_bnd (sd_isC G 41 v2) fun _ =>
  sd_bnd (fJ2_size G v2) fun r3 =>
  sd_bx (fX1_requireIndex G a1 r3) (fun e11 =>
    sd_ret (.inr e11)) fun _ =>
  sd_bnd (sd_getR G 0 3 a0) fun v4 =>
  sd_bnd (sd_getR G 0 2 a0) fun v5 =>
  sd_bnd (sd_isC G 2 v4) fun _ =>
  sd_bnd (fX3_take G v4 v5) fun r6 =>
  sd_loop (fun k s => fX1_daysUntilFound_b28 G k s.1 s.2.1 s.2.2) sd_FU (a0, a1, 0)
set_option maxHeartbeats 4000000 in
theorem sX1_daysUntilFound (l : Launch) (hl : l.stackTraces = false) (G : sd_G) (a0 : Nat) (a1 : Int32) (h : sd_H) (ρ : Int32 ⊕ Nat) (cT : Nat × Nat) (h2 : sd_H) (hf : fX1_daysUntilFound G a0 a1 h = some (ρ, cT, h2)) : sd_Met mX1_daysUntilFound ((l, G), (506, 15227), [.ref a0, .int a1], ((sd_ox sd_oI) ρ, h2), cT) h := by
  refine sd_entry (plainFor_of_name rfl) rfl (Nat.le_of_ble_eq_true rfl) ?_
  show sd_J mX1_daysUntilFound ((l, G), (506, 15227), [.ref a0, .int a1], ((sd_ox sd_oI) ρ, h2), cT) 0 [(0, .ref a0), (1, .int a1)] [] h cT
  unfold fX1_daysUntilFound at hf
  refine sj_iload_n 1 dX1_daysUntilFound_0 rfl ?_
  refine sj_aload_n 0 dX1_daysUntilFound_1 rfl ?_
  refine sj_getR fdX1_54_0 hf dX1_daysUntilFound_2 (fun v1 hf => ?_)
  refine sj_getR fdX1_109_2 hf dX1_daysUntilFound_5 (fun v2 hf => ?_)
  obtain ⟨fs8, he8, hf⟩ := sd_isC_some hf
  refine sj_cI (rest := [.int a1]) (fun _ _ _ e => sj_runV (n := 0) (As := []) (rest := [.int a1]) (sJ2_size l G v2 h _ _ _ e) he8 rfl rfl rfl rfl q2104 q490 q491 q121 q492 (by decide +kernel) rfl rfl ⟨Nat.le_of_ble_eq_true rfl, Nat.le_of_ble_eq_true rfl⟩ rfl (Nat.le_of_ble_eq_true rfl) dX1_daysUntilFound_8) hf (fun r3 h c hf => ?_)
  refine sj_xV (rest := []) (fun _ _ _ e => sj_runS (n := 2) (rest := []) (sX1_requireIndex l hl G a1 r3 h _ _ _ e) rfl rfl q2394 q2395 q116 q2396 (by decide +kernel) rfl ⟨Nat.le_of_ble_eq_true rfl, Nat.le_of_ble_eq_true rfl⟩ rfl (Nat.le_of_ble_eq_true rfl) dX1_daysUntilFound_11) hf (fun e11 h c hf => ?_) (fun h c hf => ?_)
  · exact sj_outX hf rfl (by intro x hx; cases hx)
  refine sj_aload_n 0 dX1_daysUntilFound_14 rfl ?_
  refine sj_getR fdX1_58_0 hf dX1_daysUntilFound_15 (fun v4 hf => ?_)
  refine sj_aload_n 0 dX1_daysUntilFound_18 rfl ?_
  refine sj_getR fdX1_54_0 hf dX1_daysUntilFound_19 (fun v5 hf => ?_)
  obtain ⟨fs22, he22, hf⟩ := sd_isC_some hf
  refine sj_cR (rest := []) (fun _ _ _ e => sj_runV (n := 1) (As := [.ref v5]) (rest := []) (sX3_take l G v4 v5 h _ _ _ e) he22 rfl rfl rfl rfl q2163 q2164 q2165 q118 q2166 (by decide +kernel) rfl rfl ⟨Nat.le_of_ble_eq_true rfl, Nat.le_of_ble_eq_true rfl⟩ rfl (Nat.le_of_ble_eq_true rfl) dX1_daysUntilFound_22) hf (fun r6 h c hf => ?_)
  refine sj_pop dX1_daysUntilFound_25 rfl ?_
  refine sj_iconst (v := 0) dX1_daysUntilFound_26 (by decide) ?_
  refine sj_istore_n [(2, .int 0), (0, .ref a0), (1, .int a1)] dX1_daysUntilFound_27 (by decide) rfl ?_
  exact sj_loc [1, 2, 0] rfl (sX1_daysUntilFound_b28_loop l hl G a0 a1 ρ h2 cT sd_FU (a0, a1, 0) _ _ hf)
/-! SofaDig.wouldSlide(I)I -/
abbrev cX1_wouldSlide : ByteArray := prog_1_method_48_code
def yX1_wouldSlide : MethodName := ⟨RX1, "wouldSlide", "(I)I"⟩
def dkwX1_wouldSlide_0 : List UInt8 := [42, 42, 27, 182, 0, 149, 182, 0, 224, 172]
abbrev dktX1_wouldSlide_0 : List UInt8 := dkwX1_wouldSlide_0 ++ []
theorem dksX1_wouldSlide_0 : cX1_wouldSlide.data.toList.drop 0 = dktX1_wouldSlide_0 := by decide +kernel
theorem dX1_wouldSlide_0 : decode cX1_wouldSlide 0 = .ok (.aload_n 0, 1) := dk_42 (dk_at dksX1_wouldSlide_0 0 rfl rfl)
theorem dX1_wouldSlide_1 : decode cX1_wouldSlide 1 = .ok (.aload_n 0, 1) := dk_42 (dk_at dksX1_wouldSlide_0 1 rfl rfl)
theorem dX1_wouldSlide_2 : decode cX1_wouldSlide 2 = .ok (.iload_n 1, 1) := dk_27 (dk_at dksX1_wouldSlide_0 2 rfl rfl)
theorem dX1_wouldSlide_3 : decode cX1_wouldSlide 3 = .ok (.invokevirtual 149, 3) := dk_182 0 149 (dk_at dksX1_wouldSlide_0 3 rfl rfl)
theorem dX1_wouldSlide_6 : decode cX1_wouldSlide 6 = .ok (.invokevirtual 224, 3) := dk_182 0 224 (dk_at dksX1_wouldSlide_0 6 rfl rfl)
theorem dX1_wouldSlide_9 : decode cX1_wouldSlide 9 = .ok (.ireturn, 1) := dk_172 (dk_at dksX1_wouldSlide_0 9 rfl rfl)
abbrev mX1_wouldSlide : sd_Y := (yX1_wouldSlide, cX1_wouldSlide, 2, some (.int), none)
def fX1_wouldSlide (G : sd_G) (a0 : Nat) (a1 : Int32) : sd_M (Int32 ⊕ Nat) :=
  sd_bnd (sd_isC G 0 a0) fun _ =>
  sd_bx (fX1_stacked G a0 a1) (fun e3 =>
    sd_ret (.inr e3)) fun r1 =>
  sd_bnd (sd_isC G 0 a0) fun _ =>
  sd_bnd (fX1_slidesBy G a0 r1) fun r2 =>
  sd_ret (.inl r2)
set_option maxHeartbeats 4000000 in
theorem sX1_wouldSlide (l : Launch) (hl : l.stackTraces = false) (G : sd_G) (a0 : Nat) (a1 : Int32) (h : sd_H) (ρ : Int32 ⊕ Nat) (cT : Nat × Nat) (h2 : sd_H) (hf : fX1_wouldSlide G a0 a1 h = some (ρ, cT, h2)) : sd_Met mX1_wouldSlide ((l, G), (10, 218), [.ref a0, .int a1], ((sd_ox sd_oI) ρ, h2), cT) h := by
  refine sd_entry (plainFor_of_name rfl) rfl (Nat.le_of_ble_eq_true rfl) ?_
  show sd_J mX1_wouldSlide ((l, G), (10, 218), [.ref a0, .int a1], ((sd_ox sd_oI) ρ, h2), cT) 0 [(0, .ref a0), (1, .int a1)] [] h cT
  unfold fX1_wouldSlide at hf
  refine sj_aload_n 0 dX1_wouldSlide_0 rfl ?_
  refine sj_aload_n 0 dX1_wouldSlide_1 rfl ?_
  refine sj_iload_n 1 dX1_wouldSlide_2 rfl ?_
  obtain ⟨fs3, he3, hf⟩ := sd_isC_some hf
  refine sj_xI (rest := [.ref a0]) (fun _ _ _ e => sj_runV (n := 1) (As := [.int a1]) (rest := [.ref a0]) (sX1_stacked l hl G a0 a1 h _ _ _ e) he3 rfl rfl rfl rfl q2426 q2428 qs38 q116 q2429 (by decide +kernel) rfl rfl ⟨Nat.le_of_ble_eq_true rfl, Nat.le_of_ble_eq_true rfl⟩ rfl (Nat.le_of_ble_eq_true rfl) dX1_wouldSlide_3) hf (fun e3 h c hf => ?_) (fun r1 h c hf => ?_)
  · exact sj_outX hf rfl (by intro x hx; cases hx)
  obtain ⟨fs6, he6, hf⟩ := sd_isC_some hf
  refine sj_cI (rest := []) (fun _ _ _ e => sj_runV (n := 1) (As := [.int r1]) (rest := []) (sX1_slidesBy l G a0 r1 h _ _ _ e) he6 rfl rfl rfl rfl q2159 q2161 qs32 q116 q2162 (by decide +kernel) rfl rfl ⟨Nat.le_of_ble_eq_true rfl, Nat.le_of_ble_eq_true rfl⟩ rfl (Nat.le_of_ble_eq_true rfl) dX1_wouldSlide_6) hf (fun r2 h c hf => ?_)
  exact sj_iret (o := (sd_ox sd_oI)) hf rfl rfl rfl dX1_wouldSlide_9
