set_option maxRecDepth 100000
theorem q117 : (Jvm.Cond.initialized "SofaDig$Tape") ∈ lw_all := lw_g (lw_at lw_m1 2 rfl) rfl
theorem q118 : (Jvm.Cond.initialized "SofaDig$Sofa") ∈ lw_all := lw_g (lw_at lw_m1 3 rfl) rfl
theorem q122 : (Jvm.Cond.initialized "SofaDig$Cushion") ∈ lw_all := lw_g (lw_at lw_m1 7 rfl) rfl
theorem q135 : (Jvm.Cond.initialized "SofaDig$Scanner") ∈ lw_all := lw_g (lw_at lw_m1 20 rfl) rfl
theorem q136 : (Jvm.Cond.initialized "SofaDig$Token") ∈ lw_all := lw_g (lw_at lw_m1 21 rfl) rfl
theorem q162 : (Jvm.Cond.initialized "SofaDig$Sum") ∈ lw_all := lw_g (lw_at lw_m1 47 rfl) rfl
theorem q178 : (Jvm.Cond.initialized "SofaDig$Test$1") ∈ lw_all := lw_g (lw_at lw_m1 63 rfl) rfl
theorem q194 : (Jvm.Cond.code ({ cls := "SofaDig$Tape", name := "<init>", desc := "()V" } : Jvm.MethodName) prog_33_method_1_code (1 : Nat) (Option.none : Option Jvm.ClassFile.FieldType)) ∈ lw_all := lw_g (lw_at lw_m1 79 rfl) rfl
theorem q195 : (Jvm.Cond.methodLink "SofaDig$Tape" (3 : Nat) ({ cls := "java/lang/Object", name := "<init>", desc := "()V" } : Jvm.MethodName)) ∈ lw_all := lw_g (lw_at lw_m1 80 rfl) rfl
theorem q196 : (Jvm.Cond.fieldLink "SofaDig$Tape" (9 : Nat) "SofaDig$Tape" "bytes" "[B") ∈ lw_all := lw_g (lw_at lw_m1 81 rfl) rfl
theorem q197 : (Jvm.Cond.fieldLink "SofaDig$Tape" (15 : Nat) "SofaDig$Tape" "size" "I") ∈ lw_all := lw_g (lw_at lw_m1 82 rfl) rfl
theorem q198 : (Jvm.Cond.fieldLinkNest "SofaDig$Scanner" (32 : Nat) "SofaDig$Tape" "size" "I" "SofaDig") ∈ lw_tbl := lw_at lw_m1 83 rfl
theorem q210 : (Jvm.Cond.code ({ cls := "SofaDig$Sofa", name := "<init>", desc := "()V" } : Jvm.MethodName) prog_29_method_1_code (1 : Nat) (Option.none : Option Jvm.ClassFile.FieldType)) ∈ lw_all := lw_g (lw_at lw_m1 95 rfl) rfl
theorem q211 : (Jvm.Cond.methodLink "SofaDig$Sofa" (3 : Nat) ({ cls := "java/lang/Object", name := "<init>", desc := "()V" } : Jvm.MethodName)) ∈ lw_all := lw_g (lw_at lw_m1 96 rfl) rfl
theorem q212 : (Jvm.Cond.classLink "SofaDig$Sofa" (18 : Nat) "java/util/ArrayList") ∈ lw_all := lw_g (lw_at lw_m1 97 rfl) rfl
theorem q213 : (Jvm.Cond.instantiable "java/util/ArrayList" (3 : Nat)) ∈ lw_all := lw_g (lw_at lw_m1 98 rfl) rfl
theorem q214 : (Jvm.Cond.methodLink "SofaDig$Sofa" (20 : Nat) ({ cls := "java/util/ArrayList", name := "<init>", desc := "()V" } : Jvm.MethodName)) ∈ lw_all := lw_g (lw_at lw_m1 99 rfl) rfl
theorem q215 : (Jvm.Cond.instanceMethod ({ cls := "java/util/ArrayList", name := "<init>", desc := "()V" } : Jvm.MethodName)) ∈ lw_all := lw_g (lw_at lw_m1 100 rfl) rfl
theorem q241 : (Jvm.Cond.fieldLink "SofaDig$Sofa" (9 : Nat) "SofaDig$Sofa" "strata" "I") ∈ lw_all := lw_g (lw_at lw_m1 126 rfl) rfl
theorem q245 : (Jvm.Cond.fieldLink "SofaDig$Sofa" (15 : Nat) "SofaDig$Sofa" "seats" "I") ∈ lw_all := lw_g (lw_at lw_m1 130 rfl) rfl
theorem q248 : (Jvm.Cond.fieldLink "SofaDig$Sofa" (21 : Nat) "SofaDig$Sofa" "stacks" "Ljava/util/ArrayList;") ∈ lw_all := lw_g (lw_at lw_m1 133 rfl) rfl
theorem q250 : (Jvm.Cond.fieldLink "SofaDig$Sofa" (25 : Nat) "SofaDig$Sofa" "empires" "Ljava/util/ArrayList;") ∈ lw_all := lw_g (lw_at lw_m1 135 rfl) rfl
theorem q251 : (Jvm.Cond.fieldLinkNest "SofaDig$What$5" (7 : Nat) "SofaDig$Sofa" "empires" "Ljava/util/ArrayList;" "SofaDig") ∈ lw_tbl := lw_at lw_m1 136 rfl
theorem q252 : (Jvm.Cond.fieldLinkNest "SofaDig$What$6" (7 : Nat) "SofaDig$Sofa" "empires" "Ljava/util/ArrayList;" "SofaDig") ∈ lw_tbl := lw_at lw_m1 137 rfl
theorem q255 : (Jvm.Cond.fieldLink "SofaDig$Sofa" (28 : Nat) "SofaDig$Sofa" "finds" "Ljava/util/ArrayList;") ∈ lw_all := lw_g (lw_at lw_m1 140 rfl) rfl
theorem q259 : (Jvm.Cond.fieldLink "SofaDig$Sofa" (31 : Nat) "SofaDig$Sofa" "orders" "Ljava/util/ArrayList;") ∈ lw_all := lw_g (lw_at lw_m1 144 rfl) rfl
theorem q261 : (Jvm.Cond.fieldLink "SofaDig$Sofa" (34 : Nat) "SofaDig$Sofa" "ends" "[I") ∈ lw_all := lw_g (lw_at lw_m1 146 rfl) rfl
theorem q264 : (Jvm.Cond.fieldLink "SofaDig$Sofa" (68 : Nat) "SofaDig$Sofa" "propped" "I") ∈ lw_all := lw_g (lw_at lw_m1 149 rfl) rfl
theorem q265 : (Jvm.Cond.fieldLinkNest "SofaDig$What$1" (7 : Nat) "SofaDig$Sofa" "day" "I" "SofaDig") ∈ lw_tbl := lw_at lw_m1 150 rfl
theorem q267 : (Jvm.Cond.fieldLink "SofaDig$Sofa" (184 : Nat) "SofaDig$Sofa" "day" "I") ∈ lw_all := lw_g (lw_at lw_m1 152 rfl) rfl
theorem q269 : (Jvm.Cond.fieldLink "SofaDig$Sofa" (181 : Nat) "SofaDig$Sofa" "done" "I") ∈ lw_all := lw_g (lw_at lw_m1 154 rfl) rfl
theorem q270 : (Jvm.Cond.fieldLink "SofaDig$Sofa" (88 : Nat) "SofaDig$Sofa" "dug" "I") ∈ lw_all := lw_g (lw_at lw_m1 155 rfl) rfl
theorem q272 : (Jvm.Cond.fieldLinkNest "SofaDig$What$3" (7 : Nat) "SofaDig$Sofa" "slides" "I" "SofaDig") ∈ lw_tbl := lw_at lw_m1 157 rfl
theorem q273 : (Jvm.Cond.fieldLink "SofaDig$Sofa" (108 : Nat) "SofaDig$Sofa" "slides" "I") ∈ lw_all := lw_g (lw_at lw_m1 158 rfl) rfl
theorem q304 : (Jvm.Cond.code ({ cls := "SofaDig$Sofa", name := "lay", desc := "()LSofaDig$Sofa;" } : Jvm.MethodName) prog_29_method_2_code (4 : Nat) (Option.some (Jvm.ClassFile.FieldType.object "SofaDig$Sofa"))) ∈ lw_all := lw_g (lw_at lw_m1 189 rfl) rfl
theorem q305 : (Jvm.Cond.methodLink "SofaDig$Sofa" (38 : Nat) ({ cls := "java/util/ArrayList", name := "clear", desc := "()V" } : Jvm.MethodName)) ∈ lw_all := lw_g (lw_at lw_m1 190 rfl) rfl
theorem q306 : (Jvm.Cond.instanceMethod ({ cls := "java/util/ArrayList", name := "clear", desc := "()V" } : Jvm.MethodName)) ∈ lw_all := lw_g (lw_at lw_m1 191 rfl) rfl
theorem q307 : (Jvm.Cond.selects "java/util/ArrayList" ({ cls := "java/util/ArrayList", name := "clear", desc := "()V" } : Jvm.MethodName) ({ cls := "java/util/ArrayList", name := "clear", desc := "()V" } : Jvm.MethodName)) ∈ lw_all := lw_g (lw_at lw_m1 192 rfl) rfl
theorem q309 : (Jvm.Cond.classLink "SofaDig$Sofa" (41 : Nat) "SofaDig$Cushion") ∈ lw_all := lw_g (lw_at lw_m1 194 rfl) rfl
theorem q310 : (Jvm.Cond.instantiable "SofaDig$Cushion" (4 : Nat)) ∈ lw_all := lw_g (lw_at lw_m1 195 rfl) rfl
theorem q311 : (Jvm.Cond.methodLink "SofaDig$Sofa" (43 : Nat) ({ cls := "SofaDig$Cushion", name := "<init>", desc := "(I)V" } : Jvm.MethodName)) ∈ lw_all := lw_g (lw_at lw_m1 196 rfl) rfl
theorem q312 : (Jvm.Cond.instanceMethod ({ cls := "SofaDig$Cushion", name := "<init>", desc := "(I)V" } : Jvm.MethodName)) ∈ lw_all := lw_g (lw_at lw_m1 197 rfl) rfl
theorem q313 : (Jvm.Cond.code ({ cls := "SofaDig$Cushion", name := "<init>", desc := "(I)V" } : Jvm.MethodName) prog_8_method_1_code (2 : Nat) (Option.none : Option Jvm.ClassFile.FieldType)) ∈ lw_all := lw_g (lw_at lw_m1 198 rfl) rfl
theorem q314 : (Jvm.Cond.methodLink "SofaDig$Cushion" (3 : Nat) ({ cls := "java/lang/Object", name := "<init>", desc := "()V" } : Jvm.MethodName)) ∈ lw_all := lw_g (lw_at lw_m1 199 rfl) rfl
theorem q315 : (Jvm.Cond.fieldLink "SofaDig$Cushion" (15 : Nat) "SofaDig$Cushion" "stratum" "I") ∈ lw_all := lw_g (lw_at lw_m1 200 rfl) rfl
theorem q318 : (Jvm.Cond.fieldLink "SofaDig$Cushion" (9 : Nat) "SofaDig$Cushion" "find" "I") ∈ lw_all := lw_g (lw_at lw_m1 203 rfl) rfl
theorem q319 : (Jvm.Cond.fieldLinkNest "SofaDig$Sofa" (91 : Nat) "SofaDig$Cushion" "find" "I" "SofaDig") ∈ lw_tbl := lw_at lw_m1 204 rfl
theorem q321 : (Jvm.Cond.fieldLink "SofaDig$Cushion" (21 : Nat) "SofaDig$Cushion" "hasSpring" "Z") ∈ lw_all := lw_g (lw_at lw_m1 206 rfl) rfl
theorem q322 : (Jvm.Cond.fieldLinkNest "SofaDig$Sofa" (98 : Nat) "SofaDig$Cushion" "hasSpring" "Z" "SofaDig") ∈ lw_tbl := lw_at lw_m1 207 rfl
theorem q325 : (Jvm.Cond.fieldLink "SofaDig$Cushion" (25 : Nat) "SofaDig$Cushion" "isLoose" "Z") ∈ lw_all := lw_g (lw_at lw_m1 210 rfl) rfl
theorem q326 : (Jvm.Cond.fieldLinkNest "SofaDig$Sofa" (94 : Nat) "SofaDig$Cushion" "isLoose" "Z" "SofaDig") ∈ lw_tbl := lw_at lw_m1 211 rfl
theorem q337 : (Jvm.Cond.methodLink "SofaDig$Sofa" (46 : Nat) ({ cls := "java/util/ArrayList", name := "add", desc := "(Ljava/lang/Object;)Z" } : Jvm.MethodName)) ∈ lw_all := lw_g (lw_at lw_m1 222 rfl) rfl
theorem q338 : (Jvm.Cond.instanceMethod ({ cls := "java/util/ArrayList", name := "add", desc := "(Ljava/lang/Object;)Z" } : Jvm.MethodName)) ∈ lw_all := lw_g (lw_at lw_m1 223 rfl) rfl
theorem q339 : (Jvm.Cond.selects "java/util/ArrayList" ({ cls := "java/util/ArrayList", name := "add", desc := "(Ljava/lang/Object;)Z" } : Jvm.MethodName) ({ cls := "java/util/ArrayList", name := "add", desc := "(Ljava/lang/Object;)Z" } : Jvm.MethodName)) ∈ lw_all := lw_g (lw_at lw_m1 224 rfl) rfl
theorem q463 : (Jvm.Cond.code ({ cls := "SofaDig$Scanner", name := "<init>", desc := "(LSofaDig$Tape;)V" } : Jvm.MethodName) prog_19_method_1_code (2 : Nat) (Option.none : Option Jvm.ClassFile.FieldType)) ∈ lw_all := lw_g (lw_at lw_m2 108 rfl) rfl
theorem q464 : (Jvm.Cond.methodLink "SofaDig$Scanner" (3 : Nat) ({ cls := "java/lang/Object", name := "<init>", desc := "()V" } : Jvm.MethodName)) ∈ lw_all := lw_g (lw_at lw_m2 109 rfl) rfl
theorem q465 : (Jvm.Cond.classLink "SofaDig$Scanner" (9 : Nat) "java/util/ArrayList") ∈ lw_all := lw_g (lw_at lw_m2 110 rfl) rfl
theorem q466 : (Jvm.Cond.methodLink "SofaDig$Scanner" (11 : Nat) ({ cls := "java/util/ArrayList", name := "<init>", desc := "()V" } : Jvm.MethodName)) ∈ lw_all := lw_g (lw_at lw_m2 111 rfl) rfl
theorem q467 : (Jvm.Cond.fieldLink "SofaDig$Scanner" (18 : Nat) "SofaDig$Scanner" "tape" "LSofaDig$Tape;") ∈ lw_all := lw_g (lw_at lw_m2 112 rfl) rfl
theorem q468 : (Jvm.Cond.fieldLink "SofaDig$Scanner" (12 : Nat) "SofaDig$Scanner" "tokens" "Ljava/util/ArrayList;") ∈ lw_all := lw_g (lw_at lw_m2 113 rfl) rfl
theorem q477 : (Jvm.Cond.code ({ cls := "SofaDig$Scanner", name := "all", desc := "()Ljava/util/List;" } : Jvm.MethodName) prog_19_method_6_code (3 : Nat) (Option.some (Jvm.ClassFile.FieldType.object "java/util/List"))) ∈ lw_all := lw_g (lw_at lw_m2 122 rfl) rfl
theorem q478 : (Jvm.Cond.methodLink "SofaDig$Scanner" (38 : Nat) ({ cls := "SofaDig$Tape", name := "at", desc := "(I)I" } : Jvm.MethodName)) ∈ lw_all := lw_g (lw_at lw_m2 123 rfl) rfl
theorem q479 : (Jvm.Cond.instanceMethod ({ cls := "SofaDig$Tape", name := "at", desc := "(I)I" } : Jvm.MethodName)) ∈ lw_all := lw_g (lw_at lw_m2 124 rfl) rfl
theorem q480 : (Jvm.Cond.selects "SofaDig$Tape" ({ cls := "SofaDig$Tape", name := "at", desc := "(I)I" } : Jvm.MethodName) ({ cls := "SofaDig$Tape", name := "at", desc := "(I)I" } : Jvm.MethodName)) ∈ lw_all := lw_g (lw_at lw_m2 125 rfl) rfl
theorem q481 : (Jvm.Cond.code ({ cls := "SofaDig$Tape", name := "at", desc := "(I)I" } : Jvm.MethodName) prog_33_method_3_code (2 : Nat) (Option.some Jvm.ClassFile.FieldType.int)) ∈ lw_all := lw_g (lw_at lw_m2 126 rfl) rfl
theorem q482 : (Jvm.Cond.methodLink "SofaDig$Scanner" (42 : Nat) ({ cls := "SofaDig$Scanner", name := "isBlank", desc := "(I)Z" } : Jvm.MethodName)) ∈ lw_all := lw_g (lw_at lw_m2 127 rfl) rfl
theorem q483 : (Jvm.Cond.static ({ cls := "SofaDig$Scanner", name := "isBlank", desc := "(I)Z" } : Jvm.MethodName)) ∈ lw_all := lw_g (lw_at lw_m2 128 rfl) rfl
theorem q484 : (Jvm.Cond.code ({ cls := "SofaDig$Scanner", name := "isBlank", desc := "(I)Z" } : Jvm.MethodName) prog_19_method_4_code (1 : Nat) (Option.some Jvm.ClassFile.FieldType.boolean)) ∈ lw_all := lw_g (lw_at lw_m2 129 rfl) rfl
theorem q485 : (Jvm.Cond.methodLink "SofaDig$Scanner" (46 : Nat) ({ cls := "SofaDig$Scanner", name := "next", desc := "(I)LSofaDig$Token;" } : Jvm.MethodName)) ∈ lw_all := lw_g (lw_at lw_m2 130 rfl) rfl
theorem q487 : (Jvm.Cond.instanceMethod ({ cls := "SofaDig$Scanner", name := "next", desc := "(I)LSofaDig$Token;" } : Jvm.MethodName)) ∈ lw_all := lw_g (lw_at lw_m2 132 rfl) rfl
theorem q488 : (Jvm.Cond.code ({ cls := "SofaDig$Scanner", name := "next", desc := "(I)LSofaDig$Token;" } : Jvm.MethodName) prog_19_method_7_code (5 : Nat) (Option.some (Jvm.ClassFile.FieldType.object "SofaDig$Token"))) ∈ lw_all := lw_g (lw_at lw_m2 133 rfl) rfl
theorem q489 : (Jvm.Cond.methodLink "SofaDig$Scanner" (80 : Nat) ({ cls := "java/util/ArrayList", name := "size", desc := "()I" } : Jvm.MethodName)) ∈ lw_all := lw_g (lw_at lw_m2 134 rfl) rfl
theorem q490 : (Jvm.Cond.instanceMethod ({ cls := "java/util/ArrayList", name := "size", desc := "()I" } : Jvm.MethodName)) ∈ lw_all := lw_g (lw_at lw_m2 135 rfl) rfl
theorem q491 : (Jvm.Cond.selects "java/util/ArrayList" ({ cls := "java/util/ArrayList", name := "size", desc := "()I" } : Jvm.MethodName) ({ cls := "java/util/ArrayList", name := "size", desc := "()I" } : Jvm.MethodName)) ∈ lw_all := lw_g (lw_at lw_m2 136 rfl) rfl
theorem q493 : (Jvm.Cond.classLink "SofaDig$Scanner" (54 : Nat) "SofaDig$Token") ∈ lw_all := lw_g (lw_at lw_m2 138 rfl) rfl
theorem q494 : (Jvm.Cond.instantiable "SofaDig$Token" (3 : Nat)) ∈ lw_all := lw_g (lw_at lw_m2 139 rfl) rfl
theorem q495 : (Jvm.Cond.fieldLink "SofaDig$Scanner" (59 : Nat) "SofaDig$Sort" "BAD" "LSofaDig$Sort;") ∈ lw_all := lw_g (lw_at lw_m2 140 rfl) rfl
theorem q498 : (Jvm.Cond.methodLink "SofaDig$Scanner" (77 : Nat) ({ cls := "SofaDig$Token", name := "<init>", desc := "(LSofaDig$Sort;Ljava/lang/String;I)V" } : Jvm.MethodName)) ∈ lw_all := lw_g (lw_at lw_m2 143 rfl) rfl
theorem q499 : (Jvm.Cond.instanceMethod ({ cls := "SofaDig$Token", name := "<init>", desc := "(LSofaDig$Sort;Ljava/lang/String;I)V" } : Jvm.MethodName)) ∈ lw_all := lw_g (lw_at lw_m2 144 rfl) rfl
theorem q500 : (Jvm.Cond.code ({ cls := "SofaDig$Token", name := "<init>", desc := "(LSofaDig$Sort;Ljava/lang/String;I)V" } : Jvm.MethodName) prog_36_method_1_code (4 : Nat) (Option.none : Option Jvm.ClassFile.FieldType)) ∈ lw_all := lw_g (lw_at lw_m2 145 rfl) rfl
theorem q501 : (Jvm.Cond.methodLink "SofaDig$Token" (1 : Nat) ({ cls := "java/lang/Object", name := "<init>", desc := "()V" } : Jvm.MethodName)) ∈ lw_all := lw_g (lw_at lw_m2 146 rfl) rfl
theorem q502 : (Jvm.Cond.fieldLink "SofaDig$Token" (7 : Nat) "SofaDig$Token" "sort" "LSofaDig$Sort;") ∈ lw_all := lw_g (lw_at lw_m2 147 rfl) rfl
theorem q504 : (Jvm.Cond.fieldLinkNest "SofaDig$Scanner" (53 : Nat) "SofaDig$Token" "sort" "LSofaDig$Sort;" "SofaDig") ∈ lw_tbl := lw_at lw_m2 149 rfl
theorem q505 : (Jvm.Cond.fieldLink "SofaDig$Token" (13 : Nat) "SofaDig$Token" "text" "Ljava/lang/String;") ∈ lw_all := lw_g (lw_at lw_m2 150 rfl) rfl
theorem q506 : (Jvm.Cond.fieldLinkNest "SofaDig$Scanner" (64 : Nat) "SofaDig$Token" "text" "Ljava/lang/String;" "SofaDig") ∈ lw_tbl := lw_at lw_m2 151 rfl
theorem q508 : (Jvm.Cond.fieldLink "SofaDig$Token" (17 : Nat) "SofaDig$Token" "at" "I") ∈ lw_all := lw_g (lw_at lw_m2 153 rfl) rfl
theorem q517 : (Jvm.Cond.methodLink "SofaDig$Scanner" (82 : Nat) ({ cls := "SofaDig$Scanner", name := "isLetter", desc := "(I)Z" } : Jvm.MethodName)) ∈ lw_all := lw_g (lw_at lw_m2 162 rfl) rfl
theorem q518 : (Jvm.Cond.static ({ cls := "SofaDig$Scanner", name := "isLetter", desc := "(I)Z" } : Jvm.MethodName)) ∈ lw_all := lw_g (lw_at lw_m2 163 rfl) rfl
theorem q519 : (Jvm.Cond.code ({ cls := "SofaDig$Scanner", name := "isLetter", desc := "(I)Z" } : Jvm.MethodName) prog_19_method_2_code (1 : Nat) (Option.some Jvm.ClassFile.FieldType.boolean)) ∈ lw_all := lw_g (lw_at lw_m2 164 rfl) rfl
theorem q520 : (Jvm.Cond.methodLink "SofaDig$Scanner" (85 : Nat) ({ cls := "SofaDig$Scanner", name := "isDigit", desc := "(I)Z" } : Jvm.MethodName)) ∈ lw_all := lw_g (lw_at lw_m2 165 rfl) rfl
theorem q521 : (Jvm.Cond.static ({ cls := "SofaDig$Scanner", name := "isDigit", desc := "(I)Z" } : Jvm.MethodName)) ∈ lw_all := lw_g (lw_at lw_m2 166 rfl) rfl
theorem q522 : (Jvm.Cond.code ({ cls := "SofaDig$Scanner", name := "isDigit", desc := "(I)Z" } : Jvm.MethodName) prog_19_method_3_code (1 : Nat) (Option.some Jvm.ClassFile.FieldType.boolean)) ∈ lw_all := lw_g (lw_at lw_m2 167 rfl) rfl
theorem q523 : (Jvm.Cond.methodLink "SofaDig$Scanner" (88 : Nat) ({ cls := "SofaDig$Tape", name := "text", desc := "(II)Ljava/lang/String;" } : Jvm.MethodName)) ∈ lw_all := lw_g (lw_at lw_m2 168 rfl) rfl
theorem q524 : (Jvm.Cond.instanceMethod ({ cls := "SofaDig$Tape", name := "text", desc := "(II)Ljava/lang/String;" } : Jvm.MethodName)) ∈ lw_all := lw_g (lw_at lw_m2 169 rfl) rfl
theorem q525 : (Jvm.Cond.selects "SofaDig$Tape" ({ cls := "SofaDig$Tape", name := "text", desc := "(II)Ljava/lang/String;" } : Jvm.MethodName) ({ cls := "SofaDig$Tape", name := "text", desc := "(II)Ljava/lang/String;" } : Jvm.MethodName)) ∈ lw_all := lw_g (lw_at lw_m2 170 rfl) rfl
theorem q526 : (Jvm.Cond.code ({ cls := "SofaDig$Tape", name := "text", desc := "(II)Ljava/lang/String;" } : Jvm.MethodName) prog_33_method_4_code (5 : Nat) (Option.some (Jvm.ClassFile.FieldType.object "java/lang/String"))) ∈ lw_all := lw_g (lw_at lw_m2 171 rfl) rfl
theorem q527 : (Jvm.Cond.classLink "SofaDig$Tape" (19 : Nat) "java/lang/StringBuilder") ∈ lw_all := lw_g (lw_at lw_m2 172 rfl) rfl
theorem q528 : (Jvm.Cond.instantiable "java/lang/StringBuilder" (4 : Nat)) ∈ lw_all := lw_g (lw_at lw_m2 173 rfl) rfl
theorem q529 : (Jvm.Cond.methodLink "SofaDig$Tape" (21 : Nat) ({ cls := "java/lang/StringBuilder", name := "<init>", desc := "()V" } : Jvm.MethodName)) ∈ lw_all := lw_g (lw_at lw_m2 174 rfl) rfl
theorem q530 : (Jvm.Cond.instanceMethod ({ cls := "java/lang/StringBuilder", name := "<init>", desc := "()V" } : Jvm.MethodName)) ∈ lw_all := lw_g (lw_at lw_m2 175 rfl) rfl
theorem q558 : (Jvm.Cond.methodLink "SofaDig$Tape" (22 : Nat) ({ cls := "SofaDig$Tape", name := "at", desc := "(I)I" } : Jvm.MethodName)) ∈ lw_all := lw_g (lw_at lw_m2 203 rfl) rfl
theorem q559 : (Jvm.Cond.methodLink "SofaDig$Tape" (26 : Nat) ({ cls := "java/lang/StringBuilder", name := "append", desc := "(C)Ljava/lang/StringBuilder;" } : Jvm.MethodName)) ∈ lw_all := lw_g (lw_at lw_m2 204 rfl) rfl
theorem q560 : (Jvm.Cond.instanceMethod ({ cls := "java/lang/StringBuilder", name := "append", desc := "(C)Ljava/lang/StringBuilder;" } : Jvm.MethodName)) ∈ lw_all := lw_g (lw_at lw_m2 205 rfl) rfl
theorem q561 : (Jvm.Cond.selects "java/lang/StringBuilder" ({ cls := "java/lang/StringBuilder", name := "append", desc := "(C)Ljava/lang/StringBuilder;" } : Jvm.MethodName) ({ cls := "java/lang/StringBuilder", name := "append", desc := "(C)Ljava/lang/StringBuilder;" } : Jvm.MethodName)) ∈ lw_all := lw_g (lw_at lw_m2 206 rfl) rfl
theorem q639 : (Jvm.Cond.methodLink "SofaDig$Tape" (30 : Nat) ({ cls := "java/lang/StringBuilder", name := "toString", desc := "()Ljava/lang/String;" } : Jvm.MethodName)) ∈ lw_all := lw_g (lw_at lw_m3 44 rfl) rfl
theorem q640 : (Jvm.Cond.instanceMethod ({ cls := "java/lang/StringBuilder", name := "toString", desc := "()Ljava/lang/String;" } : Jvm.MethodName)) ∈ lw_all := lw_g (lw_at lw_m3 45 rfl) rfl
theorem q641 : (Jvm.Cond.selects "java/lang/StringBuilder" ({ cls := "java/lang/StringBuilder", name := "toString", desc := "()Ljava/lang/String;" } : Jvm.MethodName) ({ cls := "java/lang/StringBuilder", name := "toString", desc := "()Ljava/lang/String;" } : Jvm.MethodName)) ∈ lw_all := lw_g (lw_at lw_m3 46 rfl) rfl
theorem q845 : (Jvm.Cond.methodLink "SofaDig$Scanner" (68 : Nat) ({ cls := "java/lang/String", name := "length", desc := "()I" } : Jvm.MethodName)) ∈ lw_all := lw_g (lw_at lw_m4 10 rfl) rfl
theorem q846 : (Jvm.Cond.methodLink "SofaDig$Scanner" (91 : Nat) ({ cls := "SofaDig$Scanner", name := "isKey", desc := "(Ljava/lang/String;)Z" } : Jvm.MethodName)) ∈ lw_all := lw_g (lw_at lw_m4 11 rfl) rfl
theorem q847 : (Jvm.Cond.static ({ cls := "SofaDig$Scanner", name := "isKey", desc := "(Ljava/lang/String;)Z" } : Jvm.MethodName)) ∈ lw_all := lw_g (lw_at lw_m4 12 rfl) rfl
theorem q848 : (Jvm.Cond.code ({ cls := "SofaDig$Scanner", name := "isKey", desc := "(Ljava/lang/String;)Z" } : Jvm.MethodName) prog_19_method_5_code (5 : Nat) (Option.some Jvm.ClassFile.FieldType.boolean)) ∈ lw_all := lw_g (lw_at lw_m4 13 rfl) rfl
theorem q849 : (Jvm.Cond.fieldLink "SofaDig$Scanner" (22 : Nat) "SofaDig$Scanner" "KEYS" "[Ljava/lang/String;") ∈ lw_all := lw_g (lw_at lw_m4 14 rfl) rfl
theorem q851 : (Jvm.Cond.methodLink "SofaDig$Scanner" (26 : Nat) ({ cls := "java/lang/String", name := "equals", desc := "(Ljava/lang/Object;)Z" } : Jvm.MethodName)) ∈ lw_all := lw_g (lw_at lw_m4 16 rfl) rfl
theorem q853 : (Jvm.Cond.selects "java/lang/String" ({ cls := "java/lang/String", name := "equals", desc := "(Ljava/lang/Object;)Z" } : Jvm.MethodName) ({ cls := "java/lang/String", name := "equals", desc := "(Ljava/lang/Object;)Z" } : Jvm.MethodName)) ∈ lw_all := lw_g (lw_at lw_m4 18 rfl) rfl
theorem q859 : (Jvm.Cond.fieldLink "SofaDig$Scanner" (95 : Nat) "SofaDig$Sort" "KEY" "LSofaDig$Sort;") ∈ lw_all := lw_g (lw_at lw_m4 24 rfl) rfl
theorem q861 : (Jvm.Cond.fieldLink "SofaDig$Scanner" (98 : Nat) "SofaDig$Sort" "NAME" "LSofaDig$Sort;") ∈ lw_all := lw_g (lw_at lw_m4 26 rfl) rfl
theorem q863 : (Jvm.Cond.fieldLink "SofaDig$Scanner" (101 : Nat) "SofaDig$Sort" "NUMBER" "LSofaDig$Sort;") ∈ lw_all := lw_g (lw_at lw_m4 28 rfl) rfl
theorem q866 : (Jvm.Cond.methodLink "SofaDig$Scanner" (106 : Nat) ({ cls := "java/lang/String", name := "indexOf", desc := "(I)I" } : Jvm.MethodName)) ∈ lw_all := lw_g (lw_at lw_m4 31 rfl) rfl
theorem q867 : (Jvm.Cond.instanceMethod ({ cls := "java/lang/String", name := "indexOf", desc := "(I)I" } : Jvm.MethodName)) ∈ lw_all := lw_g (lw_at lw_m4 32 rfl) rfl
theorem q868 : (Jvm.Cond.selects "java/lang/String" ({ cls := "java/lang/String", name := "indexOf", desc := "(I)I" } : Jvm.MethodName) ({ cls := "java/lang/String", name := "indexOf", desc := "(I)I" } : Jvm.MethodName)) ∈ lw_all := lw_g (lw_at lw_m4 33 rfl) rfl
theorem q916 : (Jvm.Cond.fieldLink "SofaDig$Scanner" (109 : Nat) "SofaDig$Sort" "SYMBOL" "LSofaDig$Sort;") ∈ lw_all := lw_g (lw_at lw_m4 81 rfl) rfl
theorem q918 : (Jvm.Cond.methodLink "SofaDig$Scanner" (50 : Nat) ({ cls := "java/util/ArrayList", name := "add", desc := "(Ljava/lang/Object;)Z" } : Jvm.MethodName)) ∈ lw_all := lw_g (lw_at lw_m4 83 rfl) rfl
theorem q919 : (Jvm.Cond.fieldLink "SofaDig$Scanner" (72 : Nat) "SofaDig$Sort" "END" "LSofaDig$Sort;") ∈ lw_all := lw_g (lw_at lw_m4 84 rfl) rfl
theorem q1002 : (Jvm.Cond.instanceMethod ({ cls := "java/util/ArrayList", name := "get", desc := "(I)Ljava/lang/Object;" } : Jvm.MethodName)) ∈ lw_all := lw_g (lw_at lw_m4 167 rfl) rfl
theorem q1017 : (Jvm.Cond.code ({ cls := "SofaDig$Token", name := "is", desc := "(Ljava/lang/String;)Z" } : Jvm.MethodName) prog_36_method_2_code (2 : Nat) (Option.some Jvm.ClassFile.FieldType.boolean)) ∈ lw_all := lw_g (lw_at lw_m4 182 rfl) rfl
theorem q1018 : (Jvm.Cond.fieldLink "SofaDig$Token" (21 : Nat) "SofaDig$Sort" "KEY" "LSofaDig$Sort;") ∈ lw_all := lw_g (lw_at lw_m4 183 rfl) rfl
theorem q1019 : (Jvm.Cond.fieldLink "SofaDig$Token" (26 : Nat) "SofaDig$Sort" "SYMBOL" "LSofaDig$Sort;") ∈ lw_all := lw_g (lw_at lw_m4 184 rfl) rfl
theorem q1020 : (Jvm.Cond.methodLink "SofaDig$Token" (29 : Nat) ({ cls := "java/lang/String", name := "equals", desc := "(Ljava/lang/Object;)Z" } : Jvm.MethodName)) ∈ lw_all := lw_g (lw_at lw_m4 185 rfl) rfl
theorem q1045 : (Jvm.Cond.code ({ cls := "SofaDig$Fault", name := "<init>", desc := "(II)V" } : Jvm.MethodName) prog_11_method_1_code (3 : Nat) (Option.none : Option Jvm.ClassFile.FieldType)) ∈ lw_all := lw_g (lw_at lw_m4 210 rfl) rfl
theorem q1050 : (Jvm.Cond.fieldLink "SofaDig$Fault" (7 : Nat) "SofaDig$Fault" "error" "I") ∈ lw_all := lw_g (lw_at lw_m4 215 rfl) rfl
theorem q1052 : (Jvm.Cond.fieldLink "SofaDig$Fault" (13 : Nat) "SofaDig$Fault" "at" "I") ∈ lw_all := lw_g (lw_at lw_m4 217 rfl) rfl
theorem q1063 : (Jvm.Cond.code ({ cls := "SofaDig$Token", name := "number", desc := "()I" } : Jvm.MethodName) prog_36_method_3_code (3 : Nat) (Option.some Jvm.ClassFile.FieldType.int)) ∈ lw_all := lw_g (lw_at lw_m4 228 rfl) rfl
theorem q1064 : (Jvm.Cond.methodLink "SofaDig$Token" (35 : Nat) ({ cls := "java/lang/String", name := "length", desc := "()I" } : Jvm.MethodName)) ∈ lw_all := lw_g (lw_at lw_m4 229 rfl) rfl
theorem q1065 : (Jvm.Cond.methodLink "SofaDig$Token" (39 : Nat) ({ cls := "java/lang/String", name := "charAt", desc := "(I)C" } : Jvm.MethodName)) ∈ lw_all := lw_g (lw_at lw_m4 230 rfl) rfl
theorem q1625 : (Jvm.Cond.code ({ cls := "SofaDig$Empire", name := "<init>", desc := "(II)V" } : Jvm.MethodName) prog_10_method_1_code (3 : Nat) (Option.none : Option Jvm.ClassFile.FieldType)) ∈ lw_all := lw_g (lw_at lw_m7 70 rfl) rfl
theorem q1626 : (Jvm.Cond.methodLink "SofaDig$Empire" (1 : Nat) ({ cls := "java/lang/Object", name := "<init>", desc := "()V" } : Jvm.MethodName)) ∈ lw_all := lw_g (lw_at lw_m7 71 rfl) rfl
theorem q1627 : (Jvm.Cond.fieldLink "SofaDig$Empire" (7 : Nat) "SofaDig$Empire" "from" "I") ∈ lw_all := lw_g (lw_at lw_m7 72 rfl) rfl
theorem q1628 : (Jvm.Cond.fieldLinkNest "SofaDig$What$5" (21 : Nat) "SofaDig$Empire" "from" "I" "SofaDig") ∈ lw_tbl := lw_at lw_m7 73 rfl
theorem q1629 : (Jvm.Cond.fieldLinkNest "SofaDig$Sofa" (137 : Nat) "SofaDig$Empire" "from" "I" "SofaDig") ∈ lw_tbl := lw_at lw_m7 74 rfl
theorem q1630 : (Jvm.Cond.fieldLink "SofaDig$Empire" (13 : Nat) "SofaDig$Empire" "to" "I") ∈ lw_all := lw_g (lw_at lw_m7 75 rfl) rfl
theorem q1631 : (Jvm.Cond.fieldLinkNest "SofaDig$What$6" (21 : Nat) "SofaDig$Empire" "to" "I" "SofaDig") ∈ lw_tbl := lw_at lw_m7 76 rfl
theorem q1632 : (Jvm.Cond.fieldLinkNest "SofaDig$Sofa" (146 : Nat) "SofaDig$Empire" "to" "I" "SofaDig") ∈ lw_tbl := lw_at lw_m7 77 rfl
theorem q1834 : (Jvm.Cond.code ({ cls := "SofaDig$Find", name := "<init>", desc := "(ZII)V" } : Jvm.MethodName) prog_12_method_1_code (4 : Nat) (Option.none : Option Jvm.ClassFile.FieldType)) ∈ lw_all := lw_g (lw_at lw_m8 39 rfl) rfl
theorem q1835 : (Jvm.Cond.methodLink "SofaDig$Find" (1 : Nat) ({ cls := "java/lang/Object", name := "<init>", desc := "()V" } : Jvm.MethodName)) ∈ lw_all := lw_g (lw_at lw_m8 40 rfl) rfl
theorem q1836 : (Jvm.Cond.fieldLink "SofaDig$Find" (7 : Nat) "SofaDig$Find" "isCoin" "Z") ∈ lw_all := lw_g (lw_at lw_m8 41 rfl) rfl
theorem q1837 : (Jvm.Cond.fieldLinkNest "SofaDig$Sofa" (129 : Nat) "SofaDig$Find" "isCoin" "Z" "SofaDig") ∈ lw_tbl := lw_at lw_m8 42 rfl
theorem q1839 : (Jvm.Cond.fieldLink "SofaDig$Find" (13 : Nat) "SofaDig$Find" "told" "I") ∈ lw_all := lw_g (lw_at lw_m8 44 rfl) rfl
theorem q1840 : (Jvm.Cond.fieldLinkNest "SofaDig$Sofa" (132 : Nat) "SofaDig$Find" "told" "I" "SofaDig") ∈ lw_tbl := lw_at lw_m8 45 rfl
theorem q1842 : (Jvm.Cond.fieldLink "SofaDig$Find" (17 : Nat) "SofaDig$Find" "stratum" "I") ∈ lw_all := lw_g (lw_at lw_m8 47 rfl) rfl
theorem q1843 : (Jvm.Cond.fieldLinkNest "SofaDig$Sofa" (126 : Nat) "SofaDig$Find" "stratum" "I" "SofaDig") ∈ lw_tbl := lw_at lw_m8 48 rfl
theorem q1880 : (Jvm.Cond.code ({ cls := "SofaDig$Plain", name := "<init>", desc := "(I)V" } : Jvm.MethodName) prog_17_method_1_code (2 : Nat) (Option.none : Option Jvm.ClassFile.FieldType)) ∈ lw_all := lw_g (lw_at lw_m8 85 rfl) rfl
theorem q1881 : (Jvm.Cond.methodLinkNest "SofaDig$Plain" (1 : Nat) ({ cls := "SofaDig$Sum", name := "<init>", desc := "()V" } : Jvm.MethodName) "SofaDig") ∈ lw_tbl := lw_at lw_m8 86 rfl
theorem q1882 : (Jvm.Cond.instanceMethod ({ cls := "SofaDig$Sum", name := "<init>", desc := "()V" } : Jvm.MethodName)) ∈ lw_all := lw_g (lw_at lw_m8 87 rfl) rfl
theorem q1883 : (Jvm.Cond.code ({ cls := "SofaDig$Sum", name := "<init>", desc := "()V" } : Jvm.MethodName) prog_31_method_1_code (1 : Nat) (Option.none : Option Jvm.ClassFile.FieldType)) ∈ lw_all := lw_g (lw_at lw_m8 88 rfl) rfl
theorem q1884 : (Jvm.Cond.methodLink "SofaDig$Sum" (1 : Nat) ({ cls := "java/lang/Object", name := "<init>", desc := "()V" } : Jvm.MethodName)) ∈ lw_all := lw_g (lw_at lw_m8 89 rfl) rfl
theorem q1885 : (Jvm.Cond.fieldLink "SofaDig$Plain" (7 : Nat) "SofaDig$Plain" "number" "I") ∈ lw_all := lw_g (lw_at lw_m8 90 rfl) rfl
theorem q1901 : (Jvm.Cond.code ({ cls := "SofaDig$Asked", name := "<init>", desc := "(LSofaDig$What;I)V" } : Jvm.MethodName) prog_2_method_1_code (3 : Nat) (Option.none : Option Jvm.ClassFile.FieldType)) ∈ lw_all := lw_g (lw_at lw_m8 106 rfl) rfl
theorem q1902 : (Jvm.Cond.methodLinkNest "SofaDig$Asked" (1 : Nat) ({ cls := "SofaDig$Sum", name := "<init>", desc := "()V" } : Jvm.MethodName) "SofaDig") ∈ lw_tbl := lw_at lw_m8 107 rfl
theorem q1903 : (Jvm.Cond.fieldLink "SofaDig$Asked" (7 : Nat) "SofaDig$Asked" "what" "LSofaDig$What;") ∈ lw_all := lw_g (lw_at lw_m8 108 rfl) rfl
theorem q1904 : (Jvm.Cond.fieldLink "SofaDig$Asked" (13 : Nat) "SofaDig$Asked" "which" "I") ∈ lw_all := lw_g (lw_at lw_m8 109 rfl) rfl
theorem q1925 : (Jvm.Cond.code ({ cls := "SofaDig$Height", name := "<init>", desc := "(LSofaDig$Sum;)V" } : Jvm.MethodName) prog_13_method_1_code (2 : Nat) (Option.none : Option Jvm.ClassFile.FieldType)) ∈ lw_all := lw_g (lw_at lw_m8 130 rfl) rfl
theorem q1926 : (Jvm.Cond.methodLinkNest "SofaDig$Height" (1 : Nat) ({ cls := "SofaDig$Sum", name := "<init>", desc := "()V" } : Jvm.MethodName) "SofaDig") ∈ lw_tbl := lw_at lw_m8 131 rfl
theorem q1927 : (Jvm.Cond.fieldLink "SofaDig$Height" (7 : Nat) "SofaDig$Height" "seat" "LSofaDig$Sum;") ∈ lw_all := lw_g (lw_at lw_m8 132 rfl) rfl
theorem q1936 : (Jvm.Cond.code ({ cls := "SofaDig$Turned", name := "<init>", desc := "(LSofaDig$Sum;)V" } : Jvm.MethodName) prog_37_method_1_code (2 : Nat) (Option.none : Option Jvm.ClassFile.FieldType)) ∈ lw_all := lw_g (lw_at lw_m8 141 rfl) rfl
theorem q1937 : (Jvm.Cond.methodLinkNest "SofaDig$Turned" (1 : Nat) ({ cls := "SofaDig$Sum", name := "<init>", desc := "()V" } : Jvm.MethodName) "SofaDig") ∈ lw_tbl := lw_at lw_m8 142 rfl
theorem q1938 : (Jvm.Cond.fieldLink "SofaDig$Turned" (7 : Nat) "SofaDig$Turned" "sum" "LSofaDig$Sum;") ∈ lw_all := lw_g (lw_at lw_m8 143 rfl) rfl
theorem q1950 : (Jvm.Cond.code ({ cls := "SofaDig$Joined", name := "<init>", desc := "(LSofaDig$Sign;LSofaDig$Sum;LSofaDig$Sum;)V" } : Jvm.MethodName) prog_14_method_1_code (4 : Nat) (Option.none : Option Jvm.ClassFile.FieldType)) ∈ lw_all := lw_g (lw_at lw_m8 155 rfl) rfl
theorem q1951 : (Jvm.Cond.methodLinkNest "SofaDig$Joined" (1 : Nat) ({ cls := "SofaDig$Sum", name := "<init>", desc := "()V" } : Jvm.MethodName) "SofaDig") ∈ lw_tbl := lw_at lw_m8 156 rfl
theorem q1952 : (Jvm.Cond.fieldLink "SofaDig$Joined" (7 : Nat) "SofaDig$Joined" "sign" "LSofaDig$Sign;") ∈ lw_all := lw_g (lw_at lw_m8 157 rfl) rfl
theorem q1953 : (Jvm.Cond.fieldLink "SofaDig$Joined" (13 : Nat) "SofaDig$Joined" "left" "LSofaDig$Sum;") ∈ lw_all := lw_g (lw_at lw_m8 158 rfl) rfl
theorem q1954 : (Jvm.Cond.fieldLink "SofaDig$Joined" (17 : Nat) "SofaDig$Joined" "right" "LSofaDig$Sum;") ∈ lw_all := lw_g (lw_at lw_m8 159 rfl) rfl
theorem q1984 : (Jvm.Cond.code ({ cls := "SofaDig$Several", name := "<init>", desc := "(Z)V" } : Jvm.MethodName) prog_21_method_1_code (2 : Nat) (Option.none : Option Jvm.ClassFile.FieldType)) ∈ lw_all := lw_g (lw_at lw_m8 189 rfl) rfl
theorem q1985 : (Jvm.Cond.methodLink "SofaDig$Several" (1 : Nat) ({ cls := "java/lang/Object", name := "<init>", desc := "()V" } : Jvm.MethodName)) ∈ lw_all := lw_g (lw_at lw_m8 190 rfl) rfl
theorem q1986 : (Jvm.Cond.classLink "SofaDig$Several" (7 : Nat) "java/util/ArrayList") ∈ lw_all := lw_g (lw_at lw_m8 191 rfl) rfl
theorem q1987 : (Jvm.Cond.methodLink "SofaDig$Several" (9 : Nat) ({ cls := "java/util/ArrayList", name := "<init>", desc := "()V" } : Jvm.MethodName)) ∈ lw_all := lw_g (lw_at lw_m8 192 rfl) rfl
theorem q1988 : (Jvm.Cond.fieldLink "SofaDig$Several" (16 : Nat) "SofaDig$Several" "isAll" "Z") ∈ lw_all := lw_g (lw_at lw_m8 193 rfl) rfl
theorem q1989 : (Jvm.Cond.fieldLink "SofaDig$Several" (10 : Nat) "SofaDig$Several" "tests" "Ljava/util/ArrayList;") ∈ lw_all := lw_g (lw_at lw_m8 194 rfl) rfl
theorem q2009 : (Jvm.Cond.code ({ cls := "SofaDig$Denied", name := "<init>", desc := "(LSofaDig$Test;)V" } : Jvm.MethodName) prog_9_method_1_code (2 : Nat) (Option.none : Option Jvm.ClassFile.FieldType)) ∈ lw_all := lw_g (lw_at lw_m8 214 rfl) rfl
theorem q2010 : (Jvm.Cond.methodLink "SofaDig$Denied" (1 : Nat) ({ cls := "java/lang/Object", name := "<init>", desc := "()V" } : Jvm.MethodName)) ∈ lw_all := lw_g (lw_at lw_m8 215 rfl) rfl
theorem q2011 : (Jvm.Cond.fieldLink "SofaDig$Denied" (7 : Nat) "SofaDig$Denied" "test" "LSofaDig$Test;") ∈ lw_all := lw_g (lw_at lw_m8 216 rfl) rfl
theorem q2022 : (Jvm.Cond.code ({ cls := "SofaDig$Seen", name := "<init>", desc := "(I)V" } : Jvm.MethodName) prog_20_method_1_code (2 : Nat) (Option.none : Option Jvm.ClassFile.FieldType)) ∈ lw_all := lw_g (lw_at lw_m8 227 rfl) rfl
theorem q2023 : (Jvm.Cond.methodLink "SofaDig$Seen" (1 : Nat) ({ cls := "java/lang/Object", name := "<init>", desc := "()V" } : Jvm.MethodName)) ∈ lw_all := lw_g (lw_at lw_m8 228 rfl) rfl
theorem q2024 : (Jvm.Cond.fieldLink "SofaDig$Seen" (7 : Nat) "SofaDig$Seen" "empire" "I") ∈ lw_all := lw_g (lw_at lw_m8 229 rfl) rfl
theorem q2033 : (Jvm.Cond.code ({ cls := "SofaDig$Sure", name := "<init>", desc := "(LSofaDig$Sum;)V" } : Jvm.MethodName) prog_32_method_1_code (2 : Nat) (Option.none : Option Jvm.ClassFile.FieldType)) ∈ lw_all := lw_g (lw_at lw_m8 238 rfl) rfl
theorem q2034 : (Jvm.Cond.methodLink "SofaDig$Sure" (3 : Nat) ({ cls := "java/lang/Object", name := "<init>", desc := "()V" } : Jvm.MethodName)) ∈ lw_all := lw_g (lw_at lw_m8 239 rfl) rfl
theorem q2035 : (Jvm.Cond.fieldLink "SofaDig$Sure" (9 : Nat) "SofaDig$Sure" "find" "LSofaDig$Sum;") ∈ lw_all := lw_g (lw_at lw_m9 0 rfl) rfl
theorem q2047 : (Jvm.Cond.code ({ cls := "SofaDig$Compared", name := "<init>", desc := "(Ljava/lang/String;LSofaDig$Sum;LSofaDig$Sum;)V" } : Jvm.MethodName) prog_3_method_1_code (4 : Nat) (Option.none : Option Jvm.ClassFile.FieldType)) ∈ lw_all := lw_g (lw_at lw_m9 12 rfl) rfl
theorem q2048 : (Jvm.Cond.methodLink "SofaDig$Compared" (1 : Nat) ({ cls := "java/lang/Object", name := "<init>", desc := "()V" } : Jvm.MethodName)) ∈ lw_all := lw_g (lw_at lw_m9 13 rfl) rfl
theorem q2049 : (Jvm.Cond.fieldLink "SofaDig$Compared" (7 : Nat) "SofaDig$Compared" "sign" "Ljava/lang/String;") ∈ lw_all := lw_g (lw_at lw_m9 14 rfl) rfl
theorem q2050 : (Jvm.Cond.fieldLink "SofaDig$Compared" (13 : Nat) "SofaDig$Compared" "left" "LSofaDig$Sum;") ∈ lw_all := lw_g (lw_at lw_m9 15 rfl) rfl
theorem q2051 : (Jvm.Cond.fieldLink "SofaDig$Compared" (17 : Nat) "SofaDig$Compared" "right" "LSofaDig$Sum;") ∈ lw_all := lw_g (lw_at lw_m9 16 rfl) rfl
theorem q2063 : (Jvm.Cond.code ({ cls := "SofaDig$Test", name := "always", desc := "()LSofaDig$Test;" } : Jvm.MethodName) prog_34_method_2_code (0 : Nat) (Option.some (Jvm.ClassFile.FieldType.object "SofaDig$Test"))) ∈ lw_all := lw_g (lw_at lw_m9 28 rfl) rfl
theorem q2064 : (Jvm.Cond.classLink "SofaDig$Test" (1 : Nat) "SofaDig$Test$1") ∈ lw_all := lw_g (lw_at lw_m9 29 rfl) rfl
theorem q2065 : (Jvm.Cond.instantiable "SofaDig$Test$1" (0 : Nat)) ∈ lw_all := lw_g (lw_at lw_m9 30 rfl) rfl
theorem q2066 : (Jvm.Cond.methodLink "SofaDig$Test" (3 : Nat) ({ cls := "SofaDig$Test$1", name := "<init>", desc := "()V" } : Jvm.MethodName)) ∈ lw_all := lw_g (lw_at lw_m9 31 rfl) rfl
theorem q2067 : (Jvm.Cond.instanceMethod ({ cls := "SofaDig$Test$1", name := "<init>", desc := "()V" } : Jvm.MethodName)) ∈ lw_all := lw_g (lw_at lw_m9 32 rfl) rfl
theorem q2068 : (Jvm.Cond.code ({ cls := "SofaDig$Test$1", name := "<init>", desc := "()V" } : Jvm.MethodName) prog_35_method_1_code (1 : Nat) (Option.none : Option Jvm.ClassFile.FieldType)) ∈ lw_all := lw_g (lw_at lw_m9 33 rfl) rfl
theorem q2069 : (Jvm.Cond.methodLink "SofaDig$Test$1" (1 : Nat) ({ cls := "java/lang/Object", name := "<init>", desc := "()V" } : Jvm.MethodName)) ∈ lw_all := lw_g (lw_at lw_m9 34 rfl) rfl
theorem q2073 : (Jvm.Cond.code ({ cls := "SofaDig$Order", name := "<init>", desc := "(LSofaDig$Craft;LSofaDig$Sum;LSofaDig$Test;)V" } : Jvm.MethodName) prog_16_method_1_code (4 : Nat) (Option.none : Option Jvm.ClassFile.FieldType)) ∈ lw_all := lw_g (lw_at lw_m9 38 rfl) rfl
theorem q2074 : (Jvm.Cond.methodLink "SofaDig$Order" (1 : Nat) ({ cls := "java/lang/Object", name := "<init>", desc := "()V" } : Jvm.MethodName)) ∈ lw_all := lw_g (lw_at lw_m9 39 rfl) rfl
theorem q2075 : (Jvm.Cond.fieldLink "SofaDig$Order" (7 : Nat) "SofaDig$Order" "craft" "LSofaDig$Craft;") ∈ lw_all := lw_g (lw_at lw_m9 40 rfl) rfl
theorem q2077 : (Jvm.Cond.fieldLink "SofaDig$Order" (13 : Nat) "SofaDig$Order" "seat" "LSofaDig$Sum;") ∈ lw_all := lw_g (lw_at lw_m9 42 rfl) rfl
theorem q2079 : (Jvm.Cond.fieldLink "SofaDig$Order" (17 : Nat) "SofaDig$Order" "test" "LSofaDig$Test;") ∈ lw_all := lw_g (lw_at lw_m9 44 rfl) rfl
theorem q2126 : (Jvm.Cond.instanceMethod ({ cls := "SofaDig$Sofa", name := "found", desc := "()I" } : Jvm.MethodName)) ∈ lw_all := lw_g (lw_at lw_m9 91 rfl) rfl
theorem q2127 : (Jvm.Cond.selects "SofaDig$Sofa" ({ cls := "SofaDig$Sofa", name := "found", desc := "()I" } : Jvm.MethodName) ({ cls := "SofaDig$Sofa", name := "found", desc := "()I" } : Jvm.MethodName)) ∈ lw_all := lw_g (lw_at lw_m9 92 rfl) rfl
theorem q2128 : (Jvm.Cond.code ({ cls := "SofaDig$Sofa", name := "found", desc := "()I" } : Jvm.MethodName) prog_29_method_14_code (3 : Nat) (Option.some Jvm.ClassFile.FieldType.int)) ∈ lw_all := lw_g (lw_at lw_m9 93 rfl) rfl
theorem q2129 : (Jvm.Cond.methodLink "SofaDig$Sofa" (54 : Nat) ({ cls := "java/util/ArrayList", name := "size", desc := "()I" } : Jvm.MethodName)) ∈ lw_all := lw_g (lw_at lw_m9 94 rfl) rfl
theorem q2137 : (Jvm.Cond.code ({ cls := "SofaDig$Sofa", name := "sure", desc := "()I" } : Jvm.MethodName) prog_29_method_15_code (3 : Nat) (Option.some Jvm.ClassFile.FieldType.int)) ∈ lw_all := lw_g (lw_at lw_m9 102 rfl) rfl
theorem q2143 : (Jvm.Cond.instanceMethod ({ cls := "SofaDig$Sofa", name := "props", desc := "()I" } : Jvm.MethodName)) ∈ lw_all := lw_g (lw_at lw_m9 108 rfl) rfl
theorem q2144 : (Jvm.Cond.selects "SofaDig$Sofa" ({ cls := "SofaDig$Sofa", name := "props", desc := "()I" } : Jvm.MethodName) ({ cls := "SofaDig$Sofa", name := "props", desc := "()I" } : Jvm.MethodName)) ∈ lw_all := lw_g (lw_at lw_m9 109 rfl) rfl
theorem q2145 : (Jvm.Cond.code ({ cls := "SofaDig$Sofa", name := "props", desc := "()I" } : Jvm.MethodName) prog_29_method_7_code (3 : Nat) (Option.some Jvm.ClassFile.FieldType.int)) ∈ lw_all := lw_g (lw_at lw_m9 110 rfl) rfl
theorem q2146 : (Jvm.Cond.methodLink "SofaDig$Sofa" (71 : Nat) ({ cls := "SofaDig$Sofa", name := "isPropped", desc := "(I)Z" } : Jvm.MethodName)) ∈ lw_all := lw_g (lw_at lw_m9 111 rfl) rfl
theorem q2147 : (Jvm.Cond.instanceMethod ({ cls := "SofaDig$Sofa", name := "isPropped", desc := "(I)Z" } : Jvm.MethodName)) ∈ lw_all := lw_g (lw_at lw_m9 112 rfl) rfl
theorem q2148 : (Jvm.Cond.selects "SofaDig$Sofa" ({ cls := "SofaDig$Sofa", name := "isPropped", desc := "(I)Z" } : Jvm.MethodName) ({ cls := "SofaDig$Sofa", name := "isPropped", desc := "(I)Z" } : Jvm.MethodName)) ∈ lw_all := lw_g (lw_at lw_m9 113 rfl) rfl
theorem q2149 : (Jvm.Cond.code ({ cls := "SofaDig$Sofa", name := "isPropped", desc := "(I)Z" } : Jvm.MethodName) prog_29_method_6_code (2 : Nat) (Option.some Jvm.ClassFile.FieldType.boolean)) ∈ lw_all := lw_g (lw_at lw_m9 114 rfl) rfl
theorem q2155 : (Jvm.Cond.instanceMethod ({ cls := "SofaDig$Sofa", name := "height", desc := "(I)I" } : Jvm.MethodName)) ∈ lw_all := lw_g (lw_at lw_m9 120 rfl) rfl
theorem q2156 : (Jvm.Cond.selects "SofaDig$Sofa" ({ cls := "SofaDig$Sofa", name := "height", desc := "(I)I" } : Jvm.MethodName) ({ cls := "SofaDig$Sofa", name := "height", desc := "(I)I" } : Jvm.MethodName)) ∈ lw_all := lw_g (lw_at lw_m9 121 rfl) rfl
theorem q2157 : (Jvm.Cond.code ({ cls := "SofaDig$Sofa", name := "height", desc := "(I)I" } : Jvm.MethodName) prog_29_method_3_code (2 : Nat) (Option.some Jvm.ClassFile.FieldType.int)) ∈ lw_all := lw_g (lw_at lw_m9 122 rfl) rfl
theorem q2158 : (Jvm.Cond.methodLink "SofaDig$Sofa" (50 : Nat) ({ cls := "java/util/ArrayList", name := "get", desc := "(I)Ljava/lang/Object;" } : Jvm.MethodName)) ∈ lw_all := lw_g (lw_at lw_m9 123 rfl) rfl
theorem q2166 : (Jvm.Cond.code ({ cls := "SofaDig$Sofa", name := "take", desc := "(LSofaDig$Sofa;)LSofaDig$Sofa;" } : Jvm.MethodName) prog_29_method_23_code (7 : Nat) (Option.some (Jvm.ClassFile.FieldType.object "SofaDig$Sofa"))) ∈ lw_all := lw_g (lw_at lw_m9 131 rfl) rfl
theorem q2167 : (Jvm.Cond.methodLink "SofaDig$Sofa" (110 : Nat) ({ cls := "java/util/ArrayList", name := "iterator", desc := "()Ljava/util/Iterator;" } : Jvm.MethodName)) ∈ lw_all := lw_g (lw_at lw_m9 132 rfl) rfl
theorem q2168 : (Jvm.Cond.instanceMethod ({ cls := "java/util/ArrayList", name := "iterator", desc := "()Ljava/util/Iterator;" } : Jvm.MethodName)) ∈ lw_all := lw_g (lw_at lw_m9 133 rfl) rfl
theorem q2169 : (Jvm.Cond.selects "java/util/ArrayList" ({ cls := "java/util/ArrayList", name := "iterator", desc := "()Ljava/util/Iterator;" } : Jvm.MethodName) ({ cls := "java/util/ArrayList", name := "iterator", desc := "()Ljava/util/Iterator;" } : Jvm.MethodName)) ∈ lw_all := lw_g (lw_at lw_m9 134 rfl) rfl
theorem q2191 : (Jvm.Cond.methodLink "SofaDig$Sofa" (114 : Nat) ({ cls := "java/util/Iterator", name := "hasNext", desc := "()Z" } : Jvm.MethodName)) ∈ lw_all := lw_g (lw_at lw_m9 156 rfl) rfl
theorem q2195 : (Jvm.Cond.selects "java/util/ArrayList$Itr" ({ cls := "java/util/Iterator", name := "hasNext", desc := "()Z" } : Jvm.MethodName) ({ cls := "java/util/ArrayList$Itr", name := "hasNext", desc := "()Z" } : Jvm.MethodName)) ∈ lw_all := lw_g (lw_at lw_m9 160 rfl) rfl
theorem q2197 : (Jvm.Cond.instanceMethod ({ cls := "java/util/ArrayList$Itr", name := "hasNext", desc := "()Z" } : Jvm.MethodName)) ∈ lw_all := lw_g (lw_at lw_m9 162 rfl) rfl
theorem q2201 : (Jvm.Cond.methodLink "SofaDig$Sofa" (120 : Nat) ({ cls := "java/util/Iterator", name := "next", desc := "()Ljava/lang/Object;" } : Jvm.MethodName)) ∈ lw_all := lw_g (lw_at lw_m9 166 rfl) rfl
theorem q2204 : (Jvm.Cond.selects "java/util/ArrayList$Itr" ({ cls := "java/util/Iterator", name := "next", desc := "()Ljava/lang/Object;" } : Jvm.MethodName) ({ cls := "java/util/ArrayList$Itr", name := "next", desc := "()Ljava/lang/Object;" } : Jvm.MethodName)) ∈ lw_all := lw_g (lw_at lw_m9 169 rfl) rfl
theorem q2206 : (Jvm.Cond.instanceMethod ({ cls := "java/util/ArrayList$Itr", name := "next", desc := "()Ljava/lang/Object;" } : Jvm.MethodName)) ∈ lw_all := lw_g (lw_at lw_m9 171 rfl) rfl
theorem q2213 : (Jvm.Cond.methodLink "SofaDig$Sofa" (187 : Nat) ({ cls := "SofaDig$Cushion", name := "copy", desc := "()LSofaDig$Cushion;" } : Jvm.MethodName)) ∈ lw_all := lw_g (lw_at lw_m9 178 rfl) rfl
theorem q2214 : (Jvm.Cond.instanceMethod ({ cls := "SofaDig$Cushion", name := "copy", desc := "()LSofaDig$Cushion;" } : Jvm.MethodName)) ∈ lw_all := lw_g (lw_at lw_m9 179 rfl) rfl
theorem q2215 : (Jvm.Cond.selects "SofaDig$Cushion" ({ cls := "SofaDig$Cushion", name := "copy", desc := "()LSofaDig$Cushion;" } : Jvm.MethodName) ({ cls := "SofaDig$Cushion", name := "copy", desc := "()LSofaDig$Cushion;" } : Jvm.MethodName)) ∈ lw_all := lw_g (lw_at lw_m9 180 rfl) rfl
theorem q2216 : (Jvm.Cond.code ({ cls := "SofaDig$Cushion", name := "copy", desc := "()LSofaDig$Cushion;" } : Jvm.MethodName) prog_8_method_2_code (2 : Nat) (Option.some (Jvm.ClassFile.FieldType.object "SofaDig$Cushion"))) ∈ lw_all := lw_g (lw_at lw_m9 181 rfl) rfl
theorem q2217 : (Jvm.Cond.classLink "SofaDig$Cushion" (10 : Nat) "SofaDig$Cushion") ∈ lw_all := lw_g (lw_at lw_m9 182 rfl) rfl
theorem q2218 : (Jvm.Cond.methodLink "SofaDig$Cushion" (18 : Nat) ({ cls := "SofaDig$Cushion", name := "<init>", desc := "(I)V" } : Jvm.MethodName)) ∈ lw_all := lw_g (lw_at lw_m9 183 rfl) rfl
theorem q2219 : (Jvm.Cond.methodLink "SofaDig$Sofa" (191 : Nat) ({ cls := "java/util/ArrayList", name := "addAll", desc := "(Ljava/util/Collection;)Z" } : Jvm.MethodName)) ∈ lw_all := lw_g (lw_at lw_m9 184 rfl) rfl
theorem q2220 : (Jvm.Cond.instanceMethod ({ cls := "java/util/ArrayList", name := "addAll", desc := "(Ljava/util/Collection;)Z" } : Jvm.MethodName)) ∈ lw_all := lw_g (lw_at lw_m9 185 rfl) rfl
theorem q2221 : (Jvm.Cond.selects "java/util/ArrayList" ({ cls := "java/util/ArrayList", name := "addAll", desc := "(Ljava/util/Collection;)Z" } : Jvm.MethodName) ({ cls := "java/util/ArrayList", name := "addAll", desc := "(Ljava/util/Collection;)Z" } : Jvm.MethodName)) ∈ lw_all := lw_g (lw_at lw_m9 186 rfl) rfl
theorem q2234 : (Jvm.Cond.methodLink "SofaDig$Sofa" (195 : Nat) ({ cls := "java/lang/System", name := "arraycopy", desc := "(Ljava/lang/Object;ILjava/lang/Object;II)V" } : Jvm.MethodName)) ∈ lw_all := lw_g (lw_at lw_m9 199 rfl) rfl
theorem q2238 : (Jvm.Cond.code ({ cls := "SofaDig$Sofa", name := "dig", desc := "(I)I" } : Jvm.MethodName) prog_29_method_10_code (3 : Nat) (Option.some Jvm.ClassFile.FieldType.int)) ∈ lw_all := lw_g (lw_at lw_m9 203 rfl) rfl
theorem q2239 : (Jvm.Cond.methodLink "SofaDig$Sofa" (81 : Nat) ({ cls := "SofaDig$Sofa", name := "top", desc := "(I)LSofaDig$Cushion;" } : Jvm.MethodName)) ∈ lw_all := lw_g (lw_at lw_m9 204 rfl) rfl
theorem q2240 : (Jvm.Cond.instanceMethod ({ cls := "SofaDig$Sofa", name := "top", desc := "(I)LSofaDig$Cushion;" } : Jvm.MethodName)) ∈ lw_all := lw_g (lw_at lw_m9 205 rfl) rfl
theorem q2241 : (Jvm.Cond.selects "SofaDig$Sofa" ({ cls := "SofaDig$Sofa", name := "top", desc := "(I)LSofaDig$Cushion;" } : Jvm.MethodName) ({ cls := "SofaDig$Sofa", name := "top", desc := "(I)LSofaDig$Cushion;" } : Jvm.MethodName)) ∈ lw_all := lw_g (lw_at lw_m9 206 rfl) rfl
theorem q2242 : (Jvm.Cond.code ({ cls := "SofaDig$Sofa", name := "top", desc := "(I)LSofaDig$Cushion;" } : Jvm.MethodName) prog_29_method_4_code (2 : Nat) (Option.some (Jvm.ClassFile.FieldType.object "SofaDig$Cushion"))) ∈ lw_all := lw_g (lw_at lw_m9 207 rfl) rfl
theorem q2243 : (Jvm.Cond.methodLink "SofaDig$Sofa" (58 : Nat) ({ cls := "SofaDig$Sofa", name := "height", desc := "(I)I" } : Jvm.MethodName)) ∈ lw_all := lw_g (lw_at lw_m9 208 rfl) rfl
theorem q2244 : (Jvm.Cond.methodLink "SofaDig$Sofa" (85 : Nat) ({ cls := "java/util/ArrayList", name := "remove", desc := "(I)Ljava/lang/Object;" } : Jvm.MethodName)) ∈ lw_all := lw_g (lw_at lw_m9 209 rfl) rfl
theorem q2245 : (Jvm.Cond.instanceMethod ({ cls := "java/util/ArrayList", name := "remove", desc := "(I)Ljava/lang/Object;" } : Jvm.MethodName)) ∈ lw_all := lw_g (lw_at lw_m9 210 rfl) rfl
theorem q2246 : (Jvm.Cond.selects "java/util/ArrayList" ({ cls := "java/util/ArrayList", name := "remove", desc := "(I)Ljava/lang/Object;" } : Jvm.MethodName) ({ cls := "java/util/ArrayList", name := "remove", desc := "(I)Ljava/lang/Object;" } : Jvm.MethodName)) ∈ lw_all := lw_g (lw_at lw_m9 211 rfl) rfl
theorem q2252 : (Jvm.Cond.methodLink "SofaDig$Sofa" (78 : Nat) ({ cls := "SofaDig$Sofa", name := "settle", desc := "()V" } : Jvm.MethodName)) ∈ lw_all := lw_g (lw_at lw_m9 217 rfl) rfl
theorem q2254 : (Jvm.Cond.instanceMethod ({ cls := "SofaDig$Sofa", name := "settle", desc := "()V" } : Jvm.MethodName)) ∈ lw_all := lw_g (lw_at lw_m9 219 rfl) rfl
theorem q2255 : (Jvm.Cond.code ({ cls := "SofaDig$Sofa", name := "settle", desc := "()V" } : Jvm.MethodName) prog_29_method_13_code (4 : Nat) (Option.none : Option Jvm.ClassFile.FieldType)) ∈ lw_all := lw_g (lw_at lw_m9 220 rfl) rfl
theorem q2256 : (Jvm.Cond.methodLink "SofaDig$Sofa" (105 : Nat) ({ cls := "SofaDig$Sofa", name := "sliding", desc := "(I)I" } : Jvm.MethodName)) ∈ lw_all := lw_g (lw_at lw_m9 221 rfl) rfl
theorem q2258 : (Jvm.Cond.instanceMethod ({ cls := "SofaDig$Sofa", name := "sliding", desc := "(I)I" } : Jvm.MethodName)) ∈ lw_all := lw_g (lw_at lw_m9 223 rfl) rfl
theorem q2259 : (Jvm.Cond.code ({ cls := "SofaDig$Sofa", name := "sliding", desc := "(I)I" } : Jvm.MethodName) prog_29_method_12_code (2 : Nat) (Option.some Jvm.ClassFile.FieldType.int)) ∈ lw_all := lw_g (lw_at lw_m9 224 rfl) rfl
theorem q2260 : (Jvm.Cond.methodLink "SofaDig$Sofa" (101 : Nat) ({ cls := "SofaDig$Sofa", name := "slides", desc := "(II)Z" } : Jvm.MethodName)) ∈ lw_all := lw_g (lw_at lw_m9 225 rfl) rfl
theorem q2262 : (Jvm.Cond.instanceMethod ({ cls := "SofaDig$Sofa", name := "slides", desc := "(II)Z" } : Jvm.MethodName)) ∈ lw_all := lw_g (lw_at lw_m9 227 rfl) rfl
theorem q2263 : (Jvm.Cond.code ({ cls := "SofaDig$Sofa", name := "slides", desc := "(II)Z" } : Jvm.MethodName) prog_29_method_11_code (3 : Nat) (Option.some Jvm.ClassFile.FieldType.boolean)) ∈ lw_all := lw_g (lw_at lw_m9 228 rfl) rfl
theorem q2267 : (Jvm.Cond.code ({ cls := "SofaDig$Sofa", name := "left", desc := "(I)I" } : Jvm.MethodName) prog_29_method_16_code (5 : Nat) (Option.some Jvm.ClassFile.FieldType.int)) ∈ lw_all := lw_g (lw_at lw_m9 232 rfl) rfl
theorem q2275 : (Jvm.Cond.code ({ cls := "SofaDig$Sofa", name := "meanYear", desc := "()D" } : Jvm.MethodName) prog_29_method_21_code (4 : Nat) (Option.some Jvm.ClassFile.FieldType.double)) ∈ lw_all := lw_g (lw_at lw_m10 0 rfl) rfl
theorem q2276 : (Jvm.Cond.classLink "SofaDig$Sofa" (124 : Nat) "SofaDig$Find") ∈ lw_all := lw_g (lw_at lw_m10 1 rfl) rfl
theorem q2301 : (Jvm.Cond.code ({ cls := "SofaDig$Sofa", name := "notBefore", desc := "(I)I" } : Jvm.MethodName) prog_29_method_18_code (5 : Nat) (Option.some Jvm.ClassFile.FieldType.int)) ∈ lw_all := lw_g (lw_at lw_m10 26 rfl) rfl
theorem q2302 : (Jvm.Cond.classLink "SofaDig$Sofa" (135 : Nat) "SofaDig$Empire") ∈ lw_all := lw_g (lw_at lw_m10 27 rfl) rfl
theorem q2303 : (Jvm.Cond.methodLink "SofaDig$Sofa" (140 : Nat) ({ cls := "java/lang/Math", name := "max", desc := "(II)I" } : Jvm.MethodName)) ∈ lw_all := lw_g (lw_at lw_m10 28 rfl) rfl
theorem q2307 : (Jvm.Cond.code ({ cls := "SofaDig$Sofa", name := "isMixed", desc := "(I)Z" } : Jvm.MethodName) prog_29_method_20_code (4 : Nat) (Option.some Jvm.ClassFile.FieldType.boolean)) ∈ lw_all := lw_g (lw_at lw_m10 32 rfl) rfl
theorem q2308 : (Jvm.Cond.methodLink "SofaDig$Sofa" (149 : Nat) ({ cls := "SofaDig$Sofa", name := "isSeenIn", desc := "(II)Z" } : Jvm.MethodName)) ∈ lw_all := lw_g (lw_at lw_m10 33 rfl) rfl
theorem q2309 : (Jvm.Cond.instanceMethod ({ cls := "SofaDig$Sofa", name := "isSeenIn", desc := "(II)Z" } : Jvm.MethodName)) ∈ lw_all := lw_g (lw_at lw_m10 34 rfl) rfl
theorem q2310 : (Jvm.Cond.selects "SofaDig$Sofa" ({ cls := "SofaDig$Sofa", name := "isSeenIn", desc := "(II)Z" } : Jvm.MethodName) ({ cls := "SofaDig$Sofa", name := "isSeenIn", desc := "(II)Z" } : Jvm.MethodName)) ∈ lw_all := lw_g (lw_at lw_m10 35 rfl) rfl
theorem q2311 : (Jvm.Cond.code ({ cls := "SofaDig$Sofa", name := "isSeenIn", desc := "(II)Z" } : Jvm.MethodName) prog_29_method_19_code (5 : Nat) (Option.some Jvm.ClassFile.FieldType.boolean)) ∈ lw_all := lw_g (lw_at lw_m10 36 rfl) rfl
theorem q2344 : (Jvm.Cond.code ({ cls := "SofaDig$Tape", name := "put", desc := "(I)V" } : Jvm.MethodName) prog_33_method_2_code (3 : Nat) (Option.none : Option Jvm.ClassFile.FieldType)) ∈ lw_all := lw_g (lw_at lw_m10 69 rfl) rfl
theorem q2521 : (Jvm.Cond.code ({ cls := "SofaDig$Sofa", name := "above", desc := "(I)I" } : Jvm.MethodName) prog_29_method_17_code (5 : Nat) (Option.some Jvm.ClassFile.FieldType.int)) ∈ lw_all := lw_g (lw_at lw_m11 6 rfl) rfl
theorem q2565 : (Jvm.Cond.code ({ cls := "SofaDig$Sofa", name := "prop", desc := "(I)Z" } : Jvm.MethodName) prog_29_method_8_code (2 : Nat) (Option.some Jvm.ClassFile.FieldType.boolean)) ∈ lw_all := lw_g (lw_at lw_m11 50 rfl) rfl
theorem q2566 : (Jvm.Cond.methodLink "SofaDig$Sofa" (75 : Nat) ({ cls := "SofaDig$Sofa", name := "props", desc := "()I" } : Jvm.MethodName)) ∈ lw_all := lw_g (lw_at lw_m11 51 rfl) rfl
theorem q2578 : (Jvm.Cond.code ({ cls := "SofaDig$Sofa", name := "free", desc := "(I)V" } : Jvm.MethodName) prog_29_method_9_code (2 : Nat) (Option.none : Option Jvm.ClassFile.FieldType)) ∈ lw_all := lw_g (lw_at lw_m11 63 rfl) rfl
theorem q2612 : (Jvm.Cond.code ({ cls := "SofaDig$What$1", name := "of", desc := "(LSofaDig$Sofa;I)I" } : Jvm.MethodName) prog_39_method_2_code (3 : Nat) (Option.some Jvm.ClassFile.FieldType.int)) ∈ lw_all := lw_g (lw_at lw_m11 97 rfl) rfl
theorem q2615 : (Jvm.Cond.code ({ cls := "SofaDig$What$2", name := "of", desc := "(LSofaDig$Sofa;I)I" } : Jvm.MethodName) prog_40_method_2_code (3 : Nat) (Option.some Jvm.ClassFile.FieldType.int)) ∈ lw_all := lw_g (lw_at lw_m11 100 rfl) rfl
theorem q2616 : (Jvm.Cond.methodLink "SofaDig$What$2" (7 : Nat) ({ cls := "SofaDig$Sofa", name := "found", desc := "()I" } : Jvm.MethodName)) ∈ lw_all := lw_g (lw_at lw_m11 101 rfl) rfl
theorem q2619 : (Jvm.Cond.code ({ cls := "SofaDig$What$3", name := "of", desc := "(LSofaDig$Sofa;I)I" } : Jvm.MethodName) prog_41_method_2_code (3 : Nat) (Option.some Jvm.ClassFile.FieldType.int)) ∈ lw_all := lw_g (lw_at lw_m11 104 rfl) rfl
theorem q2622 : (Jvm.Cond.code ({ cls := "SofaDig$What$4", name := "of", desc := "(LSofaDig$Sofa;I)I" } : Jvm.MethodName) prog_42_method_2_code (3 : Nat) (Option.some Jvm.ClassFile.FieldType.int)) ∈ lw_all := lw_g (lw_at lw_m11 107 rfl) rfl
theorem q2623 : (Jvm.Cond.methodLink "SofaDig$What$4" (7 : Nat) ({ cls := "SofaDig$Sofa", name := "props", desc := "()I" } : Jvm.MethodName)) ∈ lw_all := lw_g (lw_at lw_m11 108 rfl) rfl
theorem q2626 : (Jvm.Cond.code ({ cls := "SofaDig$What$5", name := "of", desc := "(LSofaDig$Sofa;I)I" } : Jvm.MethodName) prog_43_method_2_code (3 : Nat) (Option.some Jvm.ClassFile.FieldType.int)) ∈ lw_all := lw_g (lw_at lw_m11 111 rfl) rfl
theorem q2627 : (Jvm.Cond.methodLink "SofaDig$What$5" (13 : Nat) ({ cls := "java/util/ArrayList", name := "get", desc := "(I)Ljava/lang/Object;" } : Jvm.MethodName)) ∈ lw_all := lw_g (lw_at lw_m11 112 rfl) rfl
theorem q2628 : (Jvm.Cond.classLink "SofaDig$What$5" (19 : Nat) "SofaDig$Empire") ∈ lw_all := lw_g (lw_at lw_m11 113 rfl) rfl
theorem q2631 : (Jvm.Cond.code ({ cls := "SofaDig$What$6", name := "of", desc := "(LSofaDig$Sofa;I)I" } : Jvm.MethodName) prog_44_method_2_code (3 : Nat) (Option.some Jvm.ClassFile.FieldType.int)) ∈ lw_all := lw_g (lw_at lw_m11 116 rfl) rfl
theorem q2632 : (Jvm.Cond.methodLink "SofaDig$What$6" (13 : Nat) ({ cls := "java/util/ArrayList", name := "get", desc := "(I)Ljava/lang/Object;" } : Jvm.MethodName)) ∈ lw_all := lw_g (lw_at lw_m11 117 rfl) rfl
theorem q2633 : (Jvm.Cond.classLink "SofaDig$What$6" (19 : Nat) "SofaDig$Empire") ∈ lw_all := lw_g (lw_at lw_m11 118 rfl) rfl
theorem q2655 : (Jvm.Cond.code ({ cls := "SofaDig$Sign$1", name := "join", desc := "(II)I" } : Jvm.MethodName) prog_23_method_2_code (3 : Nat) (Option.some Jvm.ClassFile.FieldType.int)) ∈ lw_all := lw_g (lw_at lw_m11 140 rfl) rfl
theorem q2658 : (Jvm.Cond.code ({ cls := "SofaDig$Sign$2", name := "join", desc := "(II)I" } : Jvm.MethodName) prog_24_method_2_code (3 : Nat) (Option.some Jvm.ClassFile.FieldType.int)) ∈ lw_all := lw_g (lw_at lw_m11 143 rfl) rfl
theorem q2661 : (Jvm.Cond.code ({ cls := "SofaDig$Sign$3", name := "join", desc := "(II)I" } : Jvm.MethodName) prog_25_method_2_code (3 : Nat) (Option.some Jvm.ClassFile.FieldType.int)) ∈ lw_all := lw_g (lw_at lw_m11 146 rfl) rfl
theorem q2664 : (Jvm.Cond.code ({ cls := "SofaDig$Sign$4", name := "join", desc := "(II)I" } : Jvm.MethodName) prog_26_method_2_code (3 : Nat) (Option.some Jvm.ClassFile.FieldType.int)) ∈ lw_all := lw_g (lw_at lw_m11 149 rfl) rfl
theorem q2667 : (Jvm.Cond.code ({ cls := "SofaDig$Sign$5", name := "join", desc := "(II)I" } : Jvm.MethodName) prog_27_method_2_code (3 : Nat) (Option.some Jvm.ClassFile.FieldType.int)) ∈ lw_all := lw_g (lw_at lw_m11 152 rfl) rfl
theorem q2668 : (Jvm.Cond.methodLink "SofaDig$Sign$5" (7 : Nat) ({ cls := "java/lang/Math", name := "min", desc := "(II)I" } : Jvm.MethodName)) ∈ lw_all := lw_g (lw_at lw_m11 153 rfl) rfl
theorem q2671 : (Jvm.Cond.code ({ cls := "SofaDig$Sign$6", name := "join", desc := "(II)I" } : Jvm.MethodName) prog_28_method_2_code (3 : Nat) (Option.some Jvm.ClassFile.FieldType.int)) ∈ lw_all := lw_g (lw_at lw_m11 156 rfl) rfl
theorem q2672 : (Jvm.Cond.methodLink "SofaDig$Sign$6" (7 : Nat) ({ cls := "java/lang/Math", name := "max", desc := "(II)I" } : Jvm.MethodName)) ∈ lw_all := lw_g (lw_at lw_m11 157 rfl) rfl
theorem q3425 : (Jvm.Cond.selects "java/util/ArrayList" ({ cls := "java/util/ArrayList", name := "get", desc := "(I)Ljava/lang/Object;" } : Jvm.MethodName) ({ cls := "java/util/ArrayList", name := "get", desc := "(I)Ljava/lang/Object;" } : Jvm.MethodName)) ∈ lw_all := lw_g (lw_at lw_m14 190 rfl) rfl
/-! SofaDig$What$1.of(LSofaDig$Sofa;I)I -/
abbrev cX29_of : ByteArray := prog_39_method_2_code
def yX29_of : MethodName := ⟨RX29, "of", "(LSofaDig$Sofa;I)I"⟩
theorem dX29_of_0 : decode cX29_of 0 = .ok (.aload_n 1, 1) := by decide +kernel
theorem dX29_of_1 : decode cX29_of 1 = .ok (.getfield 7, 3) := by decide +kernel
theorem dX29_of_4 : decode cX29_of 4 = .ok (.ireturn, 1) := by decide +kernel
theorem fdX29_7_2 : sd_Fd "SofaDig$What$1" 7 2 8 := ⟨(RX3, TX3, 12), "SofaDig$Sofa", rfl, by decide, rfl, in_X3, Or.inl rfl, Or.inr ⟨_, q265⟩⟩
abbrev mX29_of : sd_Y := (yX29_of, cX29_of, 3, some (.int), none)
def fX29_of (G : sd_G) (a0 : Nat) (a1 : Nat) (a2 : Int32) : sd_M Int32 :=
  sd_bnd (sd_getI G 2 8 a1) fun v1 =>
  sd_ret v1
set_option maxHeartbeats 4000000 in
theorem sX29_of (l : Launch) (G : sd_G) (a0 : Nat) (a1 : Nat) (a2 : Int32) (h : sd_H) (ρ : Int32) (cT : Nat × Nat) (h2 : sd_H) (hf : fX29_of G a0 a1 a2 h = some (ρ, cT, h2)) : sd_Met mX29_of ((l, G), (0, 0), [.ref a0, .ref a1, .int a2], (sd_oI ρ, h2), cT) h := by
  refine sd_entry (plainFor_of_name rfl) rfl (Nat.le_of_ble_eq_true rfl) ?_
  show sd_J mX29_of ((l, G), (0, 0), [.ref a0, .ref a1, .int a2], (sd_oI ρ, h2), cT) 0 [(0, .ref a0), (1, .ref a1), (2, .int a2)] [] h cT
  unfold fX29_of at hf
  refine sj_aload_n 1 dX29_of_0 rfl ?_
  refine sj_getI fdX29_7_2 hf dX29_of_1 (fun v1 hf => ?_)
  exact sj_iret (o := sd_oI) hf rfl rfl rfl dX29_of_4
/-! SofaDig$Sign$1.join(II)I -/
abbrev cX34_join : ByteArray := prog_23_method_2_code
def yX34_join : MethodName := ⟨RX34, "join", "(II)I"⟩
def dkwX34_join_0 : List UInt8 := [27, 28, 96, 172]
abbrev dktX34_join_0 : List UInt8 := dkwX34_join_0 ++ []
theorem dksX34_join_0 : cX34_join.data.toList.drop 0 = dktX34_join_0 := by decide +kernel
theorem dX34_join_0 : decode cX34_join 0 = .ok (.iload_n 1, 1) := dk_27 (dk_at dksX34_join_0 0 rfl rfl)
theorem dX34_join_1 : decode cX34_join 1 = .ok (.iload_n 2, 1) := dk_28 (dk_at dksX34_join_0 1 rfl rfl)
theorem dX34_join_2 : decode cX34_join 2 = .ok (.iadd, 1) := dk_96 (dk_at dksX34_join_0 2 rfl rfl)
theorem dX34_join_3 : decode cX34_join 3 = .ok (.ireturn, 1) := dk_172 (dk_at dksX34_join_0 3 rfl rfl)
abbrev mX34_join : sd_Y := (yX34_join, cX34_join, 3, some (.int), none)
def fX34_join (G : sd_G) (a0 : Nat) (a1 : Int32) (a2 : Int32) : sd_M Int32 :=
  sd_ret (a1 + a2)
set_option maxHeartbeats 4000000 in
theorem sX34_join (l : Launch) (G : sd_G) (a0 : Nat) (a1 : Int32) (a2 : Int32) (h : sd_H) (ρ : Int32) (cT : Nat × Nat) (h2 : sd_H) (hf : fX34_join G a0 a1 a2 h = some (ρ, cT, h2)) : sd_Met mX34_join ((l, G), (0, 0), [.ref a0, .int a1, .int a2], (sd_oI ρ, h2), cT) h := by
  refine sd_entry (plainFor_of_name rfl) rfl (Nat.le_of_ble_eq_true rfl) ?_
  show sd_J mX34_join ((l, G), (0, 0), [.ref a0, .int a1, .int a2], (sd_oI ρ, h2), cT) 0 [(0, .ref a0), (1, .int a1), (2, .int a2)] [] h cT
  unfold fX34_join at hf
  refine sj_iload_n 1 dX34_join_0 rfl ?_
  refine sj_iload_n 2 dX34_join_1 rfl ?_
  refine sj_iadd dX34_join_2 ?_
  exact sj_iret (o := sd_oI) hf rfl rfl rfl dX34_join_3
/-! SofaDig$Tape.<init>()V -/
abbrev cX2_init : ByteArray := prog_33_method_1_code
def yX2_init : MethodName := ⟨RX2, "<init>", "()V"⟩
def dkwX2_init_0 : List UInt8 := [42, 183, 0, 3, 42, 17, 7, 208, 188, 8, 181, 0, 9, 177]
abbrev dktX2_init_0 : List UInt8 := dkwX2_init_0 ++ []
theorem dksX2_init_0 : cX2_init.data.toList.drop 0 = dktX2_init_0 := by decide +kernel
theorem dX2_init_0 : decode cX2_init 0 = .ok (.aload_n 0, 1) := dk_42 (dk_at dksX2_init_0 0 rfl rfl)
theorem dX2_init_1 : decode cX2_init 1 = .ok (.invokespecial 3, 3) := dk_183 0 3 (dk_at dksX2_init_0 1 rfl rfl)
theorem dX2_init_4 : decode cX2_init 4 = .ok (.aload_n 0, 1) := dk_42 (dk_at dksX2_init_0 4 rfl rfl)
theorem dX2_init_5 : decode cX2_init 5 = .ok (.sipush 2000, 3) := dk_17 7 208 (dk_at dksX2_init_0 5 rfl rfl)
theorem dX2_init_8 : decode cX2_init 8 = .ok (.newarray .byte, 2) := dk_188_8 (dk_at dksX2_init_0 8 rfl rfl)
theorem dX2_init_10 : decode cX2_init 10 = .ok (.putfield 9, 3) := dk_181 0 9 (dk_at dksX2_init_0 10 rfl rfl)
theorem dX2_init_13 : decode cX2_init 13 = .ok (.return_, 1) := dk_177 (dk_at dksX2_init_0 13 rfl rfl)
theorem fpX2_init_9 : sd_Fp yX2_init 9 1 0 (.array .byte) := ⟨(RX2, TX2, 2), "SofaDig$Tape", tyX2, rfl, by decide, rfl, in_X2, Or.inl rfl, tyX2_ok, nmX2, rfl, Or.inr ⟨rfl, rfl, rfl, q196⟩⟩
abbrev mX2_init : sd_Y := (yX2_init, cX2_init, 1, none, none)
def fX2_init (G : sd_G) (a0 : Nat) : sd_M Unit :=
  sd_bnd (sd_newI 2 2000) fun o1 =>
  sd_bnd (sd_put 1 0 (.array .byte) a0 (.ref o1)) fun _ =>
  sd_ret ()
set_option maxHeartbeats 4000000 in
theorem sX2_init (l : Launch) (G : sd_G) (a0 : Nat) (h : sd_H) (ρ : Unit) (cT : Nat × Nat) (h2 : sd_H) (hf : fX2_init G a0 h = some (ρ, cT, h2)) : sd_Met mX2_init ((l, G), (1, 12), [.ref a0], (sd_oV ρ, h2), cT) h := by
  refine sd_entry (plainFor_of_name rfl) rfl (Nat.le_of_ble_eq_true rfl) ?_
  show sd_J mX2_init ((l, G), (1, 12), [.ref a0], (sd_oV ρ, h2), cT) 0 [(0, .ref a0)] [] h cT
  unfold fX2_init at hf
  refine sj_aload_n 0 dX2_init_0 rfl ?_
  refine sj_objInit q195 q188 q189 (Nat.le_of_ble_eq_true rfl) (Nat.le_of_ble_eq_true rfl) dX2_init_1 ?_
  refine sj_aload_n 0 dX2_init_4 rfl ?_
  refine sj_sipush (v := 2000) dX2_init_5 (by decide) ?_
  refine sj_newI (atype := .byte) q205 rfl rfl (by decide) sd_p2 hf dX2_init_8 (fun o1 h c hf => ?_)
  refine sj_put fpX2_init_9 hf dX2_init_10 (fun h hf => ?_)
  exact sj_vret (o := sd_oV) hf rfl rfl rfl dX2_init_13
/-! SofaDig$Sofa.<init>()V -/
abbrev cX3_init : ByteArray := prog_29_method_1_code
def yX3_init : MethodName := ⟨RX3, "<init>", "()V"⟩
def dkwX3_init_2 : List UInt8 := [181, 0, 28, 42, 187, 0, 18, 89, 183, 0, 20, 181, 0, 31, 42, 16, 24, 188, 10, 181, 0, 34, 177]
abbrev dktX3_init_2 : List UInt8 := dkwX3_init_2 ++ []
def dkwX3_init_1 : List UInt8 := [181, 0, 21, 42, 187, 0, 18, 89, 183, 0, 20, 181, 0, 25, 42, 187, 0, 18, 89, 183, 0, 20]
abbrev dktX3_init_1 : List UInt8 := dkwX3_init_1 ++ dktX3_init_2
def dkwX3_init_0 : List UInt8 := [42, 183, 0, 3, 42, 16, 6, 181, 0, 9, 42, 7, 181, 0, 15, 42, 187, 0, 18, 89, 183, 0, 20]
abbrev dktX3_init_0 : List UInt8 := dkwX3_init_0 ++ dktX3_init_1
theorem dksX3_init_0 : cX3_init.data.toList.drop 0 = dktX3_init_0 := by decide +kernel
theorem dksX3_init_1 : cX3_init.data.toList.drop 23 = dktX3_init_1 := dk_seg dksX3_init_0 23 rfl rfl
theorem dksX3_init_2 : cX3_init.data.toList.drop 45 = dktX3_init_2 := dk_seg dksX3_init_1 22 rfl rfl
theorem dX3_init_0 : decode cX3_init 0 = .ok (.aload_n 0, 1) := dk_42 (dk_at dksX3_init_0 0 rfl rfl)
theorem dX3_init_1 : decode cX3_init 1 = .ok (.invokespecial 3, 3) := dk_183 0 3 (dk_at dksX3_init_0 1 rfl rfl)
theorem dX3_init_4 : decode cX3_init 4 = .ok (.aload_n 0, 1) := dk_42 (dk_at dksX3_init_0 4 rfl rfl)
theorem dX3_init_5 : decode cX3_init 5 = .ok (.bipush 6, 2) := dk_16 6 (dk_at dksX3_init_0 5 rfl rfl)
theorem dX3_init_7 : decode cX3_init 7 = .ok (.putfield 9, 3) := dk_181 0 9 (dk_at dksX3_init_0 7 rfl rfl)
theorem dX3_init_10 : decode cX3_init 10 = .ok (.aload_n 0, 1) := dk_42 (dk_at dksX3_init_0 10 rfl rfl)
theorem dX3_init_11 : decode cX3_init 11 = .ok (.iconst 4, 1) := dk_7 (dk_at dksX3_init_0 11 rfl rfl)
theorem dX3_init_12 : decode cX3_init 12 = .ok (.putfield 15, 3) := dk_181 0 15 (dk_at dksX3_init_0 12 rfl rfl)
theorem dX3_init_15 : decode cX3_init 15 = .ok (.aload_n 0, 1) := dk_42 (dk_at dksX3_init_0 15 rfl rfl)
theorem dX3_init_16 : decode cX3_init 16 = .ok (.new 18, 3) := dk_187 0 18 (dk_at dksX3_init_0 16 rfl rfl)
theorem dX3_init_19 : decode cX3_init 19 = .ok (.dup, 1) := dk_89 (dk_at dksX3_init_0 19 rfl rfl)
theorem dX3_init_20 : decode cX3_init 20 = .ok (.invokespecial 20, 3) := dk_183 0 20 (dk_at dksX3_init_0 20 rfl rfl)
theorem dX3_init_23 : decode cX3_init 23 = .ok (.putfield 21, 3) := dk_181 0 21 (dk_at dksX3_init_1 0 rfl rfl)
theorem dX3_init_26 : decode cX3_init 26 = .ok (.aload_n 0, 1) := dk_42 (dk_at dksX3_init_1 3 rfl rfl)
theorem dX3_init_27 : decode cX3_init 27 = .ok (.new 18, 3) := dk_187 0 18 (dk_at dksX3_init_1 4 rfl rfl)
theorem dX3_init_30 : decode cX3_init 30 = .ok (.dup, 1) := dk_89 (dk_at dksX3_init_1 7 rfl rfl)
theorem dX3_init_31 : decode cX3_init 31 = .ok (.invokespecial 20, 3) := dk_183 0 20 (dk_at dksX3_init_1 8 rfl rfl)
theorem dX3_init_34 : decode cX3_init 34 = .ok (.putfield 25, 3) := dk_181 0 25 (dk_at dksX3_init_1 11 rfl rfl)
theorem dX3_init_37 : decode cX3_init 37 = .ok (.aload_n 0, 1) := dk_42 (dk_at dksX3_init_1 14 rfl rfl)
theorem dX3_init_38 : decode cX3_init 38 = .ok (.new 18, 3) := dk_187 0 18 (dk_at dksX3_init_1 15 rfl rfl)
theorem dX3_init_41 : decode cX3_init 41 = .ok (.dup, 1) := dk_89 (dk_at dksX3_init_1 18 rfl rfl)
theorem dX3_init_42 : decode cX3_init 42 = .ok (.invokespecial 20, 3) := dk_183 0 20 (dk_at dksX3_init_1 19 rfl rfl)
theorem dX3_init_45 : decode cX3_init 45 = .ok (.putfield 28, 3) := dk_181 0 28 (dk_at dksX3_init_2 0 rfl rfl)
theorem dX3_init_48 : decode cX3_init 48 = .ok (.aload_n 0, 1) := dk_42 (dk_at dksX3_init_2 3 rfl rfl)
theorem dX3_init_49 : decode cX3_init 49 = .ok (.new 18, 3) := dk_187 0 18 (dk_at dksX3_init_2 4 rfl rfl)
theorem dX3_init_52 : decode cX3_init 52 = .ok (.dup, 1) := dk_89 (dk_at dksX3_init_2 7 rfl rfl)
theorem dX3_init_53 : decode cX3_init 53 = .ok (.invokespecial 20, 3) := dk_183 0 20 (dk_at dksX3_init_2 8 rfl rfl)
theorem dX3_init_56 : decode cX3_init 56 = .ok (.putfield 31, 3) := dk_181 0 31 (dk_at dksX3_init_2 11 rfl rfl)
theorem dX3_init_59 : decode cX3_init 59 = .ok (.aload_n 0, 1) := dk_42 (dk_at dksX3_init_2 14 rfl rfl)
theorem dX3_init_60 : decode cX3_init 60 = .ok (.bipush 24, 2) := dk_16 24 (dk_at dksX3_init_2 15 rfl rfl)
theorem dX3_init_62 : decode cX3_init 62 = .ok (.newarray .int, 2) := dk_188_10 (dk_at dksX3_init_2 17 rfl rfl)
theorem dX3_init_64 : decode cX3_init 64 = .ok (.putfield 34, 3) := dk_181 0 34 (dk_at dksX3_init_2 19 rfl rfl)
theorem dX3_init_67 : decode cX3_init 67 = .ok (.return_, 1) := dk_177 (dk_at dksX3_init_2 22 rfl rfl)
theorem fpX3_9_2 (n d : String) : sd_Fp ⟨"SofaDig$Sofa", n, d⟩ 9 2 0 .int := ⟨(RX3, TX3, 12), "SofaDig$Sofa", tyX3, rfl, by decide, rfl, in_X3, Or.inl rfl, tyX3_ok, nmX3, rfl, Or.inl ⟨rfl, Or.inl q241⟩⟩
theorem fpX3_15_2 (n d : String) : sd_Fp ⟨"SofaDig$Sofa", n, d⟩ 15 2 1 .int := ⟨(RX3, TX3, 12), "SofaDig$Sofa", tyX3, rfl, by decide, rfl, in_X3, Or.inl rfl, tyX3_ok, nmX3, rfl, Or.inl ⟨rfl, Or.inl q245⟩⟩
theorem fnX3_18 : sd_Fn "SofaDig$Sofa" 18 41 3 [.int 0, .null, .int 0] := ⟨(RJ2, TJ2, 3), tyJ2, rfl, rfl, in_J2, q212, q213, q121, tyJ2_ok, fun j hj => by revert j; decide⟩
theorem fpX3_init_21 : sd_Fp yX3_init 21 2 2 (.object "java/util/ArrayList") := ⟨(RX3, TX3, 12), "SofaDig$Sofa", tyX3, rfl, by decide, rfl, in_X3, Or.inl rfl, tyX3_ok, nmX3, rfl, Or.inr ⟨rfl, rfl, rfl, q248⟩⟩
theorem fpX3_init_25 : sd_Fp yX3_init 25 2 3 (.object "java/util/ArrayList") := ⟨(RX3, TX3, 12), "SofaDig$Sofa", tyX3, rfl, by decide, rfl, in_X3, Or.inl rfl, tyX3_ok, nmX3, rfl, Or.inr ⟨rfl, rfl, rfl, q250⟩⟩
theorem fpX3_init_28 : sd_Fp yX3_init 28 2 4 (.object "java/util/ArrayList") := ⟨(RX3, TX3, 12), "SofaDig$Sofa", tyX3, rfl, by decide, rfl, in_X3, Or.inl rfl, tyX3_ok, nmX3, rfl, Or.inr ⟨rfl, rfl, rfl, q255⟩⟩
theorem fpX3_init_31 : sd_Fp yX3_init 31 2 5 (.object "java/util/ArrayList") := ⟨(RX3, TX3, 12), "SofaDig$Sofa", tyX3, rfl, by decide, rfl, in_X3, Or.inl rfl, tyX3_ok, nmX3, rfl, Or.inr ⟨rfl, rfl, rfl, q259⟩⟩
theorem fpX3_init_34 : sd_Fp yX3_init 34 2 6 (.array .int) := ⟨(RX3, TX3, 12), "SofaDig$Sofa", tyX3, rfl, by decide, rfl, in_X3, Or.inl rfl, tyX3_ok, nmX3, rfl, Or.inr ⟨rfl, rfl, rfl, q261⟩⟩
abbrev mX3_init : sd_Y := (yX3_init, cX3_init, 1, none, none)
def fX3_init (G : sd_G) (a0 : Nat) : sd_M Unit :=
  sd_bnd (sd_put 2 0 .int a0 (.int 6)) fun _ =>
  sd_bnd (sd_put 2 1 .int a0 (.int 4)) fun _ =>
  sd_bnd (sd_new 41 3 [.int 0, .null, .int 0]) fun o1 =>
  sd_bnd (fJ2_init G o1) fun _ =>
  sd_bnd (sd_put 2 2 (.object "java/util/ArrayList") a0 (.ref o1)) fun _ =>
  sd_bnd (sd_new 41 3 [.int 0, .null, .int 0]) fun o2 =>
  sd_bnd (fJ2_init G o2) fun _ =>
  sd_bnd (sd_put 2 3 (.object "java/util/ArrayList") a0 (.ref o2)) fun _ =>
  sd_bnd (sd_new 41 3 [.int 0, .null, .int 0]) fun o3 =>
  sd_bnd (fJ2_init G o3) fun _ =>
  sd_bnd (sd_put 2 4 (.object "java/util/ArrayList") a0 (.ref o3)) fun _ =>
  sd_bnd (sd_new 41 3 [.int 0, .null, .int 0]) fun o4 =>
  sd_bnd (fJ2_init G o4) fun _ =>
  sd_bnd (sd_put 2 5 (.object "java/util/ArrayList") a0 (.ref o4)) fun _ =>
  sd_bnd (sd_newI 0 24) fun o5 =>
  sd_bnd (sd_put 2 6 (.array .int) a0 (.ref o5)) fun _ =>
  sd_ret ()
set_option maxHeartbeats 4000000 in
theorem sX3_init (l : Launch) (G : sd_G) (a0 : Nat) (h : sd_H) (ρ : Unit) (cT : Nat × Nat) (h2 : sd_H) (hf : fX3_init G a0 h = some (ρ, cT, h2)) : sd_Met mX3_init ((l, G), (4, 72), [.ref a0], (sd_oV ρ, h2), cT) h := by
  refine sd_entry (plainFor_of_name rfl) rfl (Nat.le_of_ble_eq_true rfl) ?_
  show sd_J mX3_init ((l, G), (4, 72), [.ref a0], (sd_oV ρ, h2), cT) 0 [(0, .ref a0)] [] h cT
  unfold fX3_init at hf
  refine sj_aload_n 0 dX3_init_0 rfl ?_
  refine sj_objInit q211 q188 q189 (Nat.le_of_ble_eq_true rfl) (Nat.le_of_ble_eq_true rfl) dX3_init_1 ?_
  refine sj_aload_n 0 dX3_init_4 rfl ?_
  refine sj_bipush (v := 6) dX3_init_5 (by decide) ?_
  refine sj_put (fpX3_9_2 _ _) hf dX3_init_7 (fun h hf => ?_)
  refine sj_aload_n 0 dX3_init_10 rfl ?_
  refine sj_iconst (v := 4) dX3_init_11 (by decide) ?_
  refine sj_put (fpX3_15_2 _ _) hf dX3_init_12 (fun h hf => ?_)
  refine sj_aload_n 0 dX3_init_15 rfl ?_
  refine sj_new fnX3_18 hf dX3_init_16 (fun o1 h c hf => ?_)
  refine sj_dup dX3_init_19 rfl ?_
  refine sj_cV (rest := [.ref o1, .ref a0]) (fun _ _ _ e => sj_runI (n := 0) (a := o1) (As := []) (rest := [.ref o1, .ref a0]) (sJ2_init l G o1 h _ _ _ e) rfl rfl q214 q215 q121 q216 rfl (by decide +kernel) rfl rfl (fun _ z => by cases z) ⟨Nat.le_of_ble_eq_true rfl, Nat.le_of_ble_eq_true rfl⟩ rfl (Nat.le_of_ble_eq_true rfl) dX3_init_20) hf (fun h c hf => ?_)
  refine sj_put fpX3_init_21 hf dX3_init_23 (fun h hf => ?_)
  refine sj_aload_n 0 dX3_init_26 rfl ?_
  refine sj_new fnX3_18 hf dX3_init_27 (fun o2 h c hf => ?_)
  refine sj_dup dX3_init_30 rfl ?_
  refine sj_cV (rest := [.ref o2, .ref a0]) (fun _ _ _ e => sj_runI (n := 0) (a := o2) (As := []) (rest := [.ref o2, .ref a0]) (sJ2_init l G o2 h _ _ _ e) rfl rfl q214 q215 q121 q216 rfl (by decide +kernel) rfl rfl (fun _ z => by cases z) ⟨Nat.le_of_ble_eq_true rfl, Nat.le_of_ble_eq_true rfl⟩ rfl (Nat.le_of_ble_eq_true rfl) dX3_init_31) hf (fun h c hf => ?_)
  refine sj_put fpX3_init_25 hf dX3_init_34 (fun h hf => ?_)
  refine sj_aload_n 0 dX3_init_37 rfl ?_
  refine sj_new fnX3_18 hf dX3_init_38 (fun o3 h c hf => ?_)
  refine sj_dup dX3_init_41 rfl ?_
  refine sj_cV (rest := [.ref o3, .ref a0]) (fun _ _ _ e => sj_runI (n := 0) (a := o3) (As := []) (rest := [.ref o3, .ref a0]) (sJ2_init l G o3 h _ _ _ e) rfl rfl q214 q215 q121 q216 rfl (by decide +kernel) rfl rfl (fun _ z => by cases z) ⟨Nat.le_of_ble_eq_true rfl, Nat.le_of_ble_eq_true rfl⟩ rfl (Nat.le_of_ble_eq_true rfl) dX3_init_42) hf (fun h c hf => ?_)
  refine sj_put fpX3_init_28 hf dX3_init_45 (fun h hf => ?_)
  refine sj_aload_n 0 dX3_init_48 rfl ?_
  refine sj_new fnX3_18 hf dX3_init_49 (fun o4 h c hf => ?_)
  refine sj_dup dX3_init_52 rfl ?_
  refine sj_cV (rest := [.ref o4, .ref a0]) (fun _ _ _ e => sj_runI (n := 0) (a := o4) (As := []) (rest := [.ref o4, .ref a0]) (sJ2_init l G o4 h _ _ _ e) rfl rfl q214 q215 q121 q216 rfl (by decide +kernel) rfl rfl (fun _ z => by cases z) ⟨Nat.le_of_ble_eq_true rfl, Nat.le_of_ble_eq_true rfl⟩ rfl (Nat.le_of_ble_eq_true rfl) dX3_init_53) hf (fun h c hf => ?_)
  refine sj_put fpX3_init_31 hf dX3_init_56 (fun h hf => ?_)
  refine sj_aload_n 0 dX3_init_59 rfl ?_
  refine sj_bipush (v := 24) dX3_init_60 (by decide) ?_
  refine sj_newI (atype := .int) q300 rfl rfl (by decide) sd_p0 hf dX3_init_62 (fun o5 h c hf => ?_)
  refine sj_put fpX3_init_34 hf dX3_init_64 (fun h hf => ?_)
  exact sj_vret (o := sd_oV) hf rfl rfl rfl dX3_init_67
/-! SofaDig$Cushion.<init>(I)V -/
abbrev cX4_init : ByteArray := prog_8_method_1_code
def yX4_init : MethodName := ⟨RX4, "<init>", "(I)V"⟩
def dkwX4_init_0 : List UInt8 := [42, 183, 0, 3, 42, 2, 181, 0, 9, 42, 27, 181, 0, 15, 177]
abbrev dktX4_init_0 : List UInt8 := dkwX4_init_0 ++ []
theorem dksX4_init_0 : cX4_init.data.toList.drop 0 = dktX4_init_0 := by decide +kernel
theorem dX4_init_0 : decode cX4_init 0 = .ok (.aload_n 0, 1) := dk_42 (dk_at dksX4_init_0 0 rfl rfl)
theorem dX4_init_1 : decode cX4_init 1 = .ok (.invokespecial 3, 3) := dk_183 0 3 (dk_at dksX4_init_0 1 rfl rfl)
theorem dX4_init_4 : decode cX4_init 4 = .ok (.aload_n 0, 1) := dk_42 (dk_at dksX4_init_0 4 rfl rfl)
theorem dX4_init_5 : decode cX4_init 5 = .ok (.iconst (-1), 1) := dk_2 (dk_at dksX4_init_0 5 rfl rfl)
theorem dX4_init_6 : decode cX4_init 6 = .ok (.putfield 9, 3) := dk_181 0 9 (dk_at dksX4_init_0 6 rfl rfl)
theorem dX4_init_9 : decode cX4_init 9 = .ok (.aload_n 0, 1) := dk_42 (dk_at dksX4_init_0 9 rfl rfl)
theorem dX4_init_10 : decode cX4_init 10 = .ok (.iload_n 1, 1) := dk_27 (dk_at dksX4_init_0 10 rfl rfl)
theorem dX4_init_11 : decode cX4_init 11 = .ok (.putfield 15, 3) := dk_181 0 15 (dk_at dksX4_init_0 11 rfl rfl)
theorem dX4_init_14 : decode cX4_init 14 = .ok (.return_, 1) := dk_177 (dk_at dksX4_init_0 14 rfl rfl)
theorem fpX4_9_3 (n d : String) : sd_Fp ⟨"SofaDig$Cushion", n, d⟩ 9 3 1 .int := ⟨(RX4, TX4, 4), "SofaDig$Cushion", tyX4, rfl, by decide, rfl, in_X4, Or.inl rfl, tyX4_ok, nmX4, rfl, Or.inl ⟨rfl, Or.inl q318⟩⟩
theorem fpX4_init_15 : sd_Fp yX4_init 15 3 0 .int := ⟨(RX4, TX4, 4), "SofaDig$Cushion", tyX4, rfl, by decide, rfl, in_X4, Or.inl rfl, tyX4_ok, nmX4, rfl, Or.inr ⟨rfl, rfl, rfl, q315⟩⟩
abbrev mX4_init : sd_Y := (yX4_init, cX4_init, 2, none, none)
def fX4_init (G : sd_G) (a0 : Nat) (a1 : Int32) : sd_M Unit :=
  sd_bnd (sd_put 3 1 .int a0 (.int (-1))) fun _ =>
  sd_bnd (sd_put 3 0 .int a0 (.int a1)) fun _ =>
  sd_ret ()
set_option maxHeartbeats 4000000 in
theorem sX4_init (l : Launch) (G : sd_G) (a0 : Nat) (a1 : Int32) (h : sd_H) (ρ : Unit) (cT : Nat × Nat) (h2 : sd_H) (hf : fX4_init G a0 a1 h = some (ρ, cT, h2)) : sd_Met mX4_init ((l, G), (1, 12), [.ref a0, .int a1], (sd_oV ρ, h2), cT) h := by
  refine sd_entry (plainFor_of_name rfl) rfl (Nat.le_of_ble_eq_true rfl) ?_
  show sd_J mX4_init ((l, G), (1, 12), [.ref a0, .int a1], (sd_oV ρ, h2), cT) 0 [(0, .ref a0), (1, .int a1)] [] h cT
  unfold fX4_init at hf
  refine sj_aload_n 0 dX4_init_0 rfl ?_
  refine sj_objInit q314 q188 q189 (Nat.le_of_ble_eq_true rfl) (Nat.le_of_ble_eq_true rfl) dX4_init_1 ?_
  refine sj_aload_n 0 dX4_init_4 rfl ?_
  refine sj_iconst (v := (-1)) dX4_init_5 (by decide) ?_
  refine sj_put (fpX4_9_3 _ _) hf dX4_init_6 (fun h hf => ?_)
  refine sj_aload_n 0 dX4_init_9 rfl ?_
  refine sj_iload_n 1 dX4_init_10 rfl ?_
  refine sj_put fpX4_init_15 hf dX4_init_11 (fun h hf => ?_)
  exact sj_vret (o := sd_oV) hf rfl rfl rfl dX4_init_14
/-! SofaDig$Sofa.lay()LSofaDig$Sofa; -/
abbrev cX3_lay : ByteArray := prog_29_method_2_code
def yX3_lay : MethodName := ⟨RX3, "lay", "()LSofaDig$Sofa;"⟩
def dkwX3_lay_2 : List UInt8 := [132, 3, 1, 167, 255, 232, 42, 180, 0, 21, 44, 182, 0, 46, 87, 132, 1, 1, 167, 255, 199, 42, 176]
abbrev dktX3_lay_2 : List UInt8 := dkwX3_lay_2 ++ []
def dkwX3_lay_1 : List UInt8 := [77, 3, 62, 29, 42, 180, 0, 9, 162, 0, 22, 44, 187, 0, 41, 89, 29, 183, 0, 43, 182, 0, 46, 87]
abbrev dktX3_lay_1 : List UInt8 := dkwX3_lay_1 ++ dktX3_lay_2
def dkwX3_lay_0 : List UInt8 := [42, 180, 0, 21, 182, 0, 38, 3, 60, 27, 42, 180, 0, 15, 162, 0, 55, 187, 0, 18, 89, 183, 0, 20]
abbrev dktX3_lay_0 : List UInt8 := dkwX3_lay_0 ++ dktX3_lay_1
theorem dksX3_lay_0 : cX3_lay.data.toList.drop 0 = dktX3_lay_0 := by decide +kernel
theorem dksX3_lay_1 : cX3_lay.data.toList.drop 24 = dktX3_lay_1 := dk_seg dksX3_lay_0 24 rfl rfl
theorem dksX3_lay_2 : cX3_lay.data.toList.drop 48 = dktX3_lay_2 := dk_seg dksX3_lay_1 24 rfl rfl
theorem dX3_lay_0 : decode cX3_lay 0 = .ok (.aload_n 0, 1) := dk_42 (dk_at dksX3_lay_0 0 rfl rfl)
theorem dX3_lay_1 : decode cX3_lay 1 = .ok (.getfield 21, 3) := dk_180 0 21 (dk_at dksX3_lay_0 1 rfl rfl)
theorem dX3_lay_4 : decode cX3_lay 4 = .ok (.invokevirtual 38, 3) := dk_182 0 38 (dk_at dksX3_lay_0 4 rfl rfl)
theorem dX3_lay_7 : decode cX3_lay 7 = .ok (.iconst 0, 1) := dk_3 (dk_at dksX3_lay_0 7 rfl rfl)
theorem dX3_lay_8 : decode cX3_lay 8 = .ok (.istore_n 1, 1) := dk_60 (dk_at dksX3_lay_0 8 rfl rfl)
theorem dX3_lay_9 : decode cX3_lay 9 = .ok (.iload_n 1, 1) := dk_27 (dk_at dksX3_lay_0 9 rfl rfl)
theorem dX3_lay_10 : decode cX3_lay 10 = .ok (.aload_n 0, 1) := dk_42 (dk_at dksX3_lay_0 10 rfl rfl)
theorem dX3_lay_11 : decode cX3_lay 11 = .ok (.getfield 15, 3) := dk_180 0 15 (dk_at dksX3_lay_0 11 rfl rfl)
theorem dX3_lay_14 : decode cX3_lay 14 = .ok (.if_icmp .ge 55, 3) := dk_162 0 55 (dk_at dksX3_lay_0 14 rfl rfl)
theorem dX3_lay_17 : decode cX3_lay 17 = .ok (.new 18, 3) := dk_187 0 18 (dk_at dksX3_lay_0 17 rfl rfl)
theorem dX3_lay_20 : decode cX3_lay 20 = .ok (.dup, 1) := dk_89 (dk_at dksX3_lay_0 20 rfl rfl)
theorem dX3_lay_21 : decode cX3_lay 21 = .ok (.invokespecial 20, 3) := dk_183 0 20 (dk_at dksX3_lay_0 21 rfl rfl)
theorem dX3_lay_24 : decode cX3_lay 24 = .ok (.astore_n 2, 1) := dk_77 (dk_at dksX3_lay_1 0 rfl rfl)
theorem dX3_lay_25 : decode cX3_lay 25 = .ok (.iconst 0, 1) := dk_3 (dk_at dksX3_lay_1 1 rfl rfl)
theorem dX3_lay_26 : decode cX3_lay 26 = .ok (.istore_n 3, 1) := dk_62 (dk_at dksX3_lay_1 2 rfl rfl)
theorem dX3_lay_27 : decode cX3_lay 27 = .ok (.iload_n 3, 1) := dk_29 (dk_at dksX3_lay_1 3 rfl rfl)
theorem dX3_lay_28 : decode cX3_lay 28 = .ok (.aload_n 0, 1) := dk_42 (dk_at dksX3_lay_1 4 rfl rfl)
theorem dX3_lay_29 : decode cX3_lay 29 = .ok (.getfield 9, 3) := dk_180 0 9 (dk_at dksX3_lay_1 5 rfl rfl)
theorem dX3_lay_32 : decode cX3_lay 32 = .ok (.if_icmp .ge 22, 3) := dk_162 0 22 (dk_at dksX3_lay_1 8 rfl rfl)
theorem dX3_lay_35 : decode cX3_lay 35 = .ok (.aload_n 2, 1) := dk_44 (dk_at dksX3_lay_1 11 rfl rfl)
theorem dX3_lay_36 : decode cX3_lay 36 = .ok (.new 41, 3) := dk_187 0 41 (dk_at dksX3_lay_1 12 rfl rfl)
theorem dX3_lay_39 : decode cX3_lay 39 = .ok (.dup, 1) := dk_89 (dk_at dksX3_lay_1 15 rfl rfl)
theorem dX3_lay_40 : decode cX3_lay 40 = .ok (.iload_n 3, 1) := dk_29 (dk_at dksX3_lay_1 16 rfl rfl)
theorem dX3_lay_41 : decode cX3_lay 41 = .ok (.invokespecial 43, 3) := dk_183 0 43 (dk_at dksX3_lay_1 17 rfl rfl)
theorem dX3_lay_44 : decode cX3_lay 44 = .ok (.invokevirtual 46, 3) := dk_182 0 46 (dk_at dksX3_lay_1 20 rfl rfl)
theorem dX3_lay_47 : decode cX3_lay 47 = .ok (.pop, 1) := dk_87 (dk_at dksX3_lay_1 23 rfl rfl)
theorem dX3_lay_48 : decode cX3_lay 48 = .ok (.iinc 3 1, 3) := dk_132 3 1 (dk_at dksX3_lay_2 0 rfl rfl)
theorem dX3_lay_51 : decode cX3_lay 51 = .ok (.goto (-24), 3) := dk_167 255 232 (dk_at dksX3_lay_2 3 rfl rfl)
theorem dX3_lay_54 : decode cX3_lay 54 = .ok (.aload_n 0, 1) := dk_42 (dk_at dksX3_lay_2 6 rfl rfl)
theorem dX3_lay_55 : decode cX3_lay 55 = .ok (.getfield 21, 3) := dk_180 0 21 (dk_at dksX3_lay_2 7 rfl rfl)
theorem dX3_lay_58 : decode cX3_lay 58 = .ok (.aload_n 2, 1) := dk_44 (dk_at dksX3_lay_2 10 rfl rfl)
theorem dX3_lay_59 : decode cX3_lay 59 = .ok (.invokevirtual 46, 3) := dk_182 0 46 (dk_at dksX3_lay_2 11 rfl rfl)
theorem dX3_lay_62 : decode cX3_lay 62 = .ok (.pop, 1) := dk_87 (dk_at dksX3_lay_2 14 rfl rfl)
theorem dX3_lay_63 : decode cX3_lay 63 = .ok (.iinc 1 1, 3) := dk_132 1 1 (dk_at dksX3_lay_2 15 rfl rfl)
theorem dX3_lay_66 : decode cX3_lay 66 = .ok (.goto (-57), 3) := dk_167 255 199 (dk_at dksX3_lay_2 18 rfl rfl)
theorem dX3_lay_69 : decode cX3_lay 69 = .ok (.aload_n 0, 1) := dk_42 (dk_at dksX3_lay_2 21 rfl rfl)
theorem dX3_lay_70 : decode cX3_lay 70 = .ok (.areturn, 1) := dk_176 (dk_at dksX3_lay_2 22 rfl rfl)
theorem fdX3_21_2 : sd_Fd "SofaDig$Sofa" 21 2 2 := ⟨(RX3, TX3, 12), "SofaDig$Sofa", rfl, by decide, rfl, in_X3, Or.inl rfl, Or.inl q248⟩
theorem fdX3_15_2 : sd_Fd "SofaDig$Sofa" 15 2 1 := ⟨(RX3, TX3, 12), "SofaDig$Sofa", rfl, by decide, rfl, in_X3, Or.inl rfl, Or.inl q245⟩
theorem fdX3_9_2 : sd_Fd "SofaDig$Sofa" 9 2 0 := ⟨(RX3, TX3, 12), "SofaDig$Sofa", rfl, by decide, rfl, in_X3, Or.inl rfl, Or.inl q241⟩
theorem fnX3_41 : sd_Fn "SofaDig$Sofa" 41 3 4 [.int 0, .int 0, .int 0, .int 0] := ⟨(RX4, TX4, 4), tyX4, rfl, rfl, in_X4, q309, q310, q122, tyX4_ok, fun j hj => by revert j; decide⟩
abbrev mX3_lay : sd_Y := (yX3_lay, cX3_lay, 4, some (.object "SofaDig$Sofa"), none)
def fX3_lay_b27 (G : sd_G) (k9 : Nat × Int32 → sd_M Nat) (k27 : Nat × Int32 × Nat × Int32 → sd_M Nat) (w0 : Nat) (w1 : Int32) (w2 : Nat) (w3 : Int32) : sd_M Nat :=
  sd_bnd (sd_getI G 2 0 w0) fun v4 =>
  if v4 ≤ w3 then (
    sd_bnd (sd_getR G 2 2 w0) fun v5 =>
    sd_bnd (sd_isC G 41 v5) fun _ =>
    sd_bnd (fJ2_add G v5 w2) fun r6 =>
    sd_bnd (sd_ret (w1 + 1)) fun x7 =>
    k9 (w0, x7))
  else (
    sd_bnd (sd_new 3 4 [.int 0, .int 0, .int 0, .int 0]) fun o8 =>
    sd_bnd (fX4_init G o8 w3) fun _ =>
    sd_bnd (sd_isC G 41 w2) fun _ =>
    sd_bnd (fJ2_add G w2 o8) fun r9 =>
    sd_bnd (sd_ret (w3 + 1)) fun x10 =>
    k27 (w0, w1, w2, x10))
set_option maxHeartbeats 4000000 in
theorem sX3_lay_b27 (l : Launch) (G : sd_G) (a0 : Nat) (ρ : Nat) (h2 : sd_H) (cT : Nat × Nat) (k9 : Nat × Int32 → sd_M Nat) (Hk9 : ∀ (q : Nat × Int32) (h : sd_H) (c : Nat × Nat), k9 q h = some (ρ, c, h2) → sd_J mX3_lay ((l, G), (7, 152), [.ref a0], (sd_oR ρ, h2), cT) 9 [(0, .ref q.1), (1, .int q.2)] [] h c) (k27 : Nat × Int32 × Nat × Int32 → sd_M Nat) (Hk27 : ∀ (q : Nat × Int32 × Nat × Int32) (h : sd_H) (c : Nat × Nat), k27 q h = some (ρ, c, h2) → sd_J mX3_lay ((l, G), (7, 152), [.ref a0], (sd_oR ρ, h2), cT) 27 [(0, .ref q.1), (1, .int q.2.1), (2, .ref q.2.2.1), (3, .int q.2.2.2)] [] h c) (w0 : Nat) (w1 : Int32) (w2 : Nat) (w3 : Int32) (h : sd_H) (c : Nat × Nat) (hf : fX3_lay_b27 G k9 k27 w0 w1 w2 w3 h = some (ρ, c, h2)) : sd_J mX3_lay ((l, G), (7, 152), [.ref a0], (sd_oR ρ, h2), cT) 27 [(0, .ref w0), (1, .int w1), (2, .ref w2), (3, .int w3)] [] h c := by
  unfold fX3_lay_b27 at hf
  refine sj_iload_n 3 dX3_lay_27 rfl ?_
  refine sj_aload_n 0 dX3_lay_28 rfl ?_
  refine sj_getI fdX3_9_2 hf dX3_lay_29 (fun v4 hf => ?_)
  refine sj_icge 54 hf dX3_lay_32 (by decide) (fun g32 hf => ?_) (fun g32 hf => ?_)
  · refine sj_aload_n 0 dX3_lay_54 rfl ?_
    refine sj_getR fdX3_21_2 hf dX3_lay_55 (fun v5 hf => ?_)
    refine sj_aload_n 2 dX3_lay_58 rfl ?_
    obtain ⟨fs59, he59, hf⟩ := sd_isC_some hf
    refine sj_cI (rest := []) (fun _ _ _ e => sj_runV (n := 1) (As := [.ref w2]) (rest := []) (sJ2_add l G v5 w2 h _ _ _ e) he59 rfl rfl rfl rfl q337 q338 q339 q121 q340 (by decide +kernel) rfl rfl ⟨Nat.le_of_ble_eq_true rfl, Nat.le_of_ble_eq_true rfl⟩ rfl (Nat.le_of_ble_eq_true rfl) dX3_lay_59) hf (fun r6 h c hf => ?_)
    refine sj_pop dX3_lay_62 rfl ?_
    refine sj_iincN 1 (fun x7 => [(1, .int x7), (0, .ref w0), (2, .ref w2), (3, .int w3)]) 1 hf dX3_lay_63 rfl (by decide) (by decide) (fun _ => rfl) (fun x7 hf => ?_)
    refine sj_goto 9 dX3_lay_66 (by decide) ?_
    exact sj_loc [1, 0] rfl (Hk9 (w0, x7) _ _ hf)
  · refine sj_aload_n 2 dX3_lay_35 rfl ?_
    refine sj_new fnX3_41 hf dX3_lay_36 (fun o8 h c hf => ?_)
    refine sj_dup dX3_lay_39 rfl ?_
    refine sj_iload_n 3 dX3_lay_40 rfl ?_
    refine sj_cV (rest := [.ref o8, .ref w2]) (fun _ _ _ e => sj_runI (n := 1) (a := o8) (As := [.int w3]) (rest := [.ref o8, .ref w2]) (sX4_init l G o8 w3 h _ _ _ e) rfl rfl q311 q312 q122 q313 rfl (by decide +kernel) rfl rfl (fun _ z => by cases z) ⟨Nat.le_of_ble_eq_true rfl, Nat.le_of_ble_eq_true rfl⟩ rfl (Nat.le_of_ble_eq_true rfl) dX3_lay_41) hf (fun h c hf => ?_)
    obtain ⟨fs44, he44, hf⟩ := sd_isC_some hf
    refine sj_cI (rest := []) (fun _ _ _ e => sj_runV (n := 1) (As := [.ref o8]) (rest := []) (sJ2_add l G w2 o8 h _ _ _ e) he44 rfl rfl rfl rfl q337 q338 q339 q121 q340 (by decide +kernel) rfl rfl ⟨Nat.le_of_ble_eq_true rfl, Nat.le_of_ble_eq_true rfl⟩ rfl (Nat.le_of_ble_eq_true rfl) dX3_lay_44) hf (fun r9 h c hf => ?_)
    refine sj_pop dX3_lay_47 rfl ?_
    refine sj_iincN 3 (fun x10 => [(3, .int x10), (0, .ref w0), (1, .int w1), (2, .ref w2)]) 1 hf dX3_lay_48 rfl (by decide) (by decide) (fun _ => rfl) (fun x10 hf => ?_)
    refine sj_goto 27 dX3_lay_51 (by decide) ?_
    exact sj_loc [1, 2, 3, 0] rfl (Hk27 (w0, w1, w2, x10) _ _ hf)
theorem sX3_lay_b27_loop (l : Launch) (G : sd_G) (a0 : Nat) (ρ : Nat) (h2 : sd_H) (cT : Nat × Nat) (k9 : Nat × Int32 → sd_M Nat) (Hk9 : ∀ (q : Nat × Int32) (h : sd_H) (c : Nat × Nat), k9 q h = some (ρ, c, h2) → sd_J mX3_lay ((l, G), (7, 152), [.ref a0], (sd_oR ρ, h2), cT) 9 [(0, .ref q.1), (1, .int q.2)] [] h c) (n : Nat) : ∀ (q : Nat × Int32 × Nat × Int32) (h : sd_H) (c : Nat × Nat), sd_loop (fun k s => fX3_lay_b27 G k9 k s.1 s.2.1 s.2.2.1 s.2.2.2) n q h = some (ρ, c, h2) → sd_J mX3_lay ((l, G), (7, 152), [.ref a0], (sd_oR ρ, h2), cT) 27 [(0, .ref q.1), (1, .int q.2.1), (2, .ref q.2.2.1), (3, .int q.2.2.2)] [] h c := by
  induction n with
  | zero => intro q h c hf; cases hf
  | succ n ih => intro q h c hf; exact sX3_lay_b27 l G a0 ρ h2 cT k9 Hk9 _ ih _ _ _ _ _ _ hf
def fX3_lay_b9 (G : sd_G) (k9 : Nat × Int32 → sd_M Nat) (w0 : Nat) (w1 : Int32) : sd_M Nat :=
  sd_bnd (sd_getI G 2 1 w0) fun v2 =>
  if v2 ≤ w1 then (
    sd_ret w0)
  else (
    sd_bnd (sd_new 41 3 [.int 0, .null, .int 0]) fun o3 =>
    sd_bnd (fJ2_init G o3) fun _ =>
    sd_loop (fun k s => fX3_lay_b27 G k9 k s.1 s.2.1 s.2.2.1 s.2.2.2) sd_FU (w0, w1, o3, 0))
set_option maxHeartbeats 4000000 in
theorem sX3_lay_b9 (l : Launch) (G : sd_G) (a0 : Nat) (ρ : Nat) (h2 : sd_H) (cT : Nat × Nat) (k9 : Nat × Int32 → sd_M Nat) (Hk9 : ∀ (q : Nat × Int32) (h : sd_H) (c : Nat × Nat), k9 q h = some (ρ, c, h2) → sd_J mX3_lay ((l, G), (7, 152), [.ref a0], (sd_oR ρ, h2), cT) 9 [(0, .ref q.1), (1, .int q.2)] [] h c) (w0 : Nat) (w1 : Int32) (h : sd_H) (c : Nat × Nat) (hf : fX3_lay_b9 G k9 w0 w1 h = some (ρ, c, h2)) : sd_J mX3_lay ((l, G), (7, 152), [.ref a0], (sd_oR ρ, h2), cT) 9 [(0, .ref w0), (1, .int w1)] [] h c := by
  unfold fX3_lay_b9 at hf
  refine sj_iload_n 1 dX3_lay_9 rfl ?_
  refine sj_aload_n 0 dX3_lay_10 rfl ?_
  refine sj_getI fdX3_15_2 hf dX3_lay_11 (fun v2 hf => ?_)
  refine sj_icge 69 hf dX3_lay_14 (by decide) (fun g14 hf => ?_) (fun g14 hf => ?_)
  · refine sj_aload_n 0 dX3_lay_69 rfl ?_
    exact sj_aret (o := sd_oR) hf rfl rfl rfl (Or.inl ⟨_, rfl⟩) dX3_lay_70
  · refine sj_new fnX3_18 hf dX3_lay_17 (fun o3 h c hf => ?_)
    refine sj_dup dX3_lay_20 rfl ?_
    refine sj_cV (rest := [.ref o3]) (fun _ _ _ e => sj_runI (n := 0) (a := o3) (As := []) (rest := [.ref o3]) (sJ2_init l G o3 h _ _ _ e) rfl rfl q214 q215 q121 q216 rfl (by decide +kernel) rfl rfl (fun _ z => by cases z) ⟨Nat.le_of_ble_eq_true rfl, Nat.le_of_ble_eq_true rfl⟩ rfl (Nat.le_of_ble_eq_true rfl) dX3_lay_21) hf (fun h c hf => ?_)
    refine sj_astore_n [(2, .ref o3), (0, .ref w0), (1, .int w1)] dX3_lay_24 (by decide) rfl ?_
    refine sj_iconst (v := 0) dX3_lay_25 (by decide) ?_
    refine sj_istore_n [(3, .int 0), (2, .ref o3), (0, .ref w0), (1, .int w1)] dX3_lay_26 (by decide) rfl ?_
    exact sj_loc [2, 3, 1, 0] rfl (sX3_lay_b27_loop l G a0 ρ h2 cT k9 Hk9 sd_FU (w0, w1, o3, 0) _ _ hf)
theorem sX3_lay_b9_loop (l : Launch) (G : sd_G) (a0 : Nat) (ρ : Nat) (h2 : sd_H) (cT : Nat × Nat) (n : Nat) : ∀ (q : Nat × Int32) (h : sd_H) (c : Nat × Nat), sd_loop (fun k s => fX3_lay_b9 G k s.1 s.2) n q h = some (ρ, c, h2) → sd_J mX3_lay ((l, G), (7, 152), [.ref a0], (sd_oR ρ, h2), cT) 9 [(0, .ref q.1), (1, .int q.2)] [] h c := by
  induction n with
  | zero => intro q h c hf; cases hf
  | succ n ih => intro q h c hf; exact sX3_lay_b9 l G a0 ρ h2 cT _ ih _ _ _ _ hf
def fX3_lay (G : sd_G) (a0 : Nat) : sd_M Nat :=
  sd_bnd (sd_getR G 2 2 a0) fun v1 =>
  sd_bnd (sd_isC G 41 v1) fun _ =>
  sd_bnd (fJ2_clear G v1) fun _ =>
  sd_loop (fun k s => fX3_lay_b9 G k s.1 s.2) sd_FU (a0, 0)
set_option maxHeartbeats 4000000 in
theorem sX3_lay (l : Launch) (G : sd_G) (a0 : Nat) (h : sd_H) (ρ : Nat) (cT : Nat × Nat) (h2 : sd_H) (hf : fX3_lay G a0 h = some (ρ, cT, h2)) : sd_Met mX3_lay ((l, G), (7, 152), [.ref a0], (sd_oR ρ, h2), cT) h := by
  refine sd_entry (plainFor_of_name rfl) rfl (Nat.le_of_ble_eq_true rfl) ?_
  show sd_J mX3_lay ((l, G), (7, 152), [.ref a0], (sd_oR ρ, h2), cT) 0 [(0, .ref a0)] [] h cT
  unfold fX3_lay at hf
  refine sj_aload_n 0 dX3_lay_0 rfl ?_
  refine sj_getR fdX3_21_2 hf dX3_lay_1 (fun v1 hf => ?_)
  obtain ⟨fs4, he4, hf⟩ := sd_isC_some hf
  refine sj_cV (rest := []) (fun _ _ _ e => sj_runV (n := 0) (As := []) (rest := []) (sJ2_clear l G v1 h _ _ _ e) he4 rfl rfl rfl rfl q305 q306 q307 q121 q308 (by decide +kernel) rfl rfl ⟨Nat.le_of_ble_eq_true rfl, Nat.le_of_ble_eq_true rfl⟩ rfl (Nat.le_of_ble_eq_true rfl) dX3_lay_4) hf (fun h c hf => ?_)
  refine sj_iconst (v := 0) dX3_lay_7 (by decide) ?_
  refine sj_istore_n [(1, .int 0), (0, .ref a0)] dX3_lay_8 (by decide) rfl ?_
  exact sj_loc [1, 0] rfl (sX3_lay_b9_loop l G a0 ρ h2 cT sd_FU (a0, 0) _ _ hf)
/-! SofaDig$Scanner.<init>(LSofaDig$Tape;)V -/
abbrev cX8_init : ByteArray := prog_19_method_1_code
def yX8_init : MethodName := ⟨RX8, "<init>", "(LSofaDig$Tape;)V"⟩
def dkwX8_init_0 : List UInt8 := [42, 183, 0, 3, 42, 187, 0, 9, 89, 183, 0, 11, 181, 0, 12, 42, 43, 181, 0, 18, 177]
abbrev dktX8_init_0 : List UInt8 := dkwX8_init_0 ++ []
theorem dksX8_init_0 : cX8_init.data.toList.drop 0 = dktX8_init_0 := by decide +kernel
theorem dX8_init_0 : decode cX8_init 0 = .ok (.aload_n 0, 1) := dk_42 (dk_at dksX8_init_0 0 rfl rfl)
theorem dX8_init_1 : decode cX8_init 1 = .ok (.invokespecial 3, 3) := dk_183 0 3 (dk_at dksX8_init_0 1 rfl rfl)
theorem dX8_init_4 : decode cX8_init 4 = .ok (.aload_n 0, 1) := dk_42 (dk_at dksX8_init_0 4 rfl rfl)
theorem dX8_init_5 : decode cX8_init 5 = .ok (.new 9, 3) := dk_187 0 9 (dk_at dksX8_init_0 5 rfl rfl)
theorem dX8_init_8 : decode cX8_init 8 = .ok (.dup, 1) := dk_89 (dk_at dksX8_init_0 8 rfl rfl)
theorem dX8_init_9 : decode cX8_init 9 = .ok (.invokespecial 11, 3) := dk_183 0 11 (dk_at dksX8_init_0 9 rfl rfl)
theorem dX8_init_12 : decode cX8_init 12 = .ok (.putfield 12, 3) := dk_181 0 12 (dk_at dksX8_init_0 12 rfl rfl)
theorem dX8_init_15 : decode cX8_init 15 = .ok (.aload_n 0, 1) := dk_42 (dk_at dksX8_init_0 15 rfl rfl)
theorem dX8_init_16 : decode cX8_init 16 = .ok (.aload_n 1, 1) := dk_43 (dk_at dksX8_init_0 16 rfl rfl)
theorem dX8_init_17 : decode cX8_init 17 = .ok (.putfield 18, 3) := dk_181 0 18 (dk_at dksX8_init_0 17 rfl rfl)
theorem dX8_init_20 : decode cX8_init 20 = .ok (.return_, 1) := dk_177 (dk_at dksX8_init_0 20 rfl rfl)
theorem fnX8_9 : sd_Fn "SofaDig$Scanner" 9 41 3 [.int 0, .null, .int 0] := ⟨(RJ2, TJ2, 3), tyJ2, rfl, rfl, in_J2, q465, q213, q121, tyJ2_ok, fun j hj => by revert j; decide⟩
theorem fpX8_init_12 : sd_Fp yX8_init 12 7 1 (.object "java/util/ArrayList") := ⟨(RX8, TX8, 2), "SofaDig$Scanner", tyX8, rfl, by decide, rfl, in_X8, Or.inl rfl, tyX8_ok, nmX8, rfl, Or.inr ⟨rfl, rfl, rfl, q468⟩⟩
theorem fpX8_init_18 : sd_Fp yX8_init 18 7 0 (.object "SofaDig$Tape") := ⟨(RX8, TX8, 2), "SofaDig$Scanner", tyX8, rfl, by decide, rfl, in_X8, Or.inl rfl, tyX8_ok, nmX8, rfl, Or.inr ⟨rfl, rfl, rfl, q467⟩⟩
abbrev mX8_init : sd_Y := (yX8_init, cX8_init, 2, none, none)
def fX8_init (G : sd_G) (a0 : Nat) (a1 : Nat) : sd_M Unit :=
  sd_bnd (sd_new 41 3 [.int 0, .null, .int 0]) fun o1 =>
  sd_bnd (fJ2_init G o1) fun _ =>
  sd_bnd (sd_put 7 1 (.object "java/util/ArrayList") a0 (.ref o1)) fun _ =>
  sd_bnd (sd_put 7 0 (.object "SofaDig$Tape") a0 (.ref a1)) fun _ =>
  sd_ret ()
set_option maxHeartbeats 4000000 in
theorem sX8_init (l : Launch) (G : sd_G) (a0 : Nat) (a1 : Nat) (h : sd_H) (ρ : Unit) (cT : Nat × Nat) (h2 : sd_H) (hf : fX8_init G a0 a1 h = some (ρ, cT, h2)) : sd_Met mX8_init ((l, G), (4, 72), [.ref a0, .ref a1], (sd_oV ρ, h2), cT) h := by
  refine sd_entry (plainFor_of_name rfl) rfl (Nat.le_of_ble_eq_true rfl) ?_
  show sd_J mX8_init ((l, G), (4, 72), [.ref a0, .ref a1], (sd_oV ρ, h2), cT) 0 [(0, .ref a0), (1, .ref a1)] [] h cT
  unfold fX8_init at hf
  refine sj_aload_n 0 dX8_init_0 rfl ?_
  refine sj_objInit q464 q188 q189 (Nat.le_of_ble_eq_true rfl) (Nat.le_of_ble_eq_true rfl) dX8_init_1 ?_
  refine sj_aload_n 0 dX8_init_4 rfl ?_
  refine sj_new fnX8_9 hf dX8_init_5 (fun o1 h c hf => ?_)
  refine sj_dup dX8_init_8 rfl ?_
  refine sj_cV (rest := [.ref o1, .ref a0]) (fun _ _ _ e => sj_runI (n := 0) (a := o1) (As := []) (rest := [.ref o1, .ref a0]) (sJ2_init l G o1 h _ _ _ e) rfl rfl q466 q215 q121 q216 rfl (by decide +kernel) rfl rfl (fun _ z => by cases z) ⟨Nat.le_of_ble_eq_true rfl, Nat.le_of_ble_eq_true rfl⟩ rfl (Nat.le_of_ble_eq_true rfl) dX8_init_9) hf (fun h c hf => ?_)
  refine sj_put fpX8_init_12 hf dX8_init_12 (fun h hf => ?_)
  refine sj_aload_n 0 dX8_init_15 rfl ?_
  refine sj_aload_n 1 dX8_init_16 rfl ?_
  refine sj_put fpX8_init_18 hf dX8_init_17 (fun h hf => ?_)
  exact sj_vret (o := sd_oV) hf rfl rfl rfl dX8_init_20
/-! SofaDig$Tape.at(I)I -/
abbrev cX2_at : ByteArray := prog_33_method_3_code
def yX2_at : MethodName := ⟨RX2, "at", "(I)I"⟩
def dkwX2_at_0 : List UInt8 := [27, 42, 180, 0, 15, 162, 0, 16, 42, 180, 0, 9, 27, 51, 17, 0, 255, 126, 167, 0, 4, 3, 172]
abbrev dktX2_at_0 : List UInt8 := dkwX2_at_0 ++ []
theorem dksX2_at_0 : cX2_at.data.toList.drop 0 = dktX2_at_0 := by decide +kernel
theorem dX2_at_0 : decode cX2_at 0 = .ok (.iload_n 1, 1) := dk_27 (dk_at dksX2_at_0 0 rfl rfl)
theorem dX2_at_1 : decode cX2_at 1 = .ok (.aload_n 0, 1) := dk_42 (dk_at dksX2_at_0 1 rfl rfl)
theorem dX2_at_2 : decode cX2_at 2 = .ok (.getfield 15, 3) := dk_180 0 15 (dk_at dksX2_at_0 2 rfl rfl)
theorem dX2_at_5 : decode cX2_at 5 = .ok (.if_icmp .ge 16, 3) := dk_162 0 16 (dk_at dksX2_at_0 5 rfl rfl)
theorem dX2_at_8 : decode cX2_at 8 = .ok (.aload_n 0, 1) := dk_42 (dk_at dksX2_at_0 8 rfl rfl)
theorem dX2_at_9 : decode cX2_at 9 = .ok (.getfield 9, 3) := dk_180 0 9 (dk_at dksX2_at_0 9 rfl rfl)
theorem dX2_at_12 : decode cX2_at 12 = .ok (.iload_n 1, 1) := dk_27 (dk_at dksX2_at_0 12 rfl rfl)
theorem dX2_at_13 : decode cX2_at 13 = .ok (.baload, 1) := dk_51 (dk_at dksX2_at_0 13 rfl rfl)
theorem dX2_at_14 : decode cX2_at 14 = .ok (.sipush 255, 3) := dk_17 0 255 (dk_at dksX2_at_0 14 rfl rfl)
theorem dX2_at_17 : decode cX2_at 17 = .ok (.iand, 1) := dk_126 (dk_at dksX2_at_0 17 rfl rfl)
theorem dX2_at_18 : decode cX2_at 18 = .ok (.goto 4, 3) := dk_167 0 4 (dk_at dksX2_at_0 18 rfl rfl)
theorem dX2_at_21 : decode cX2_at 21 = .ok (.iconst 0, 1) := dk_3 (dk_at dksX2_at_0 21 rfl rfl)
theorem dX2_at_22 : decode cX2_at 22 = .ok (.ireturn, 1) := dk_172 (dk_at dksX2_at_0 22 rfl rfl)
theorem fdX2_15_1 : sd_Fd "SofaDig$Tape" 15 1 1 := ⟨(RX2, TX2, 2), "SofaDig$Tape", rfl, by decide, rfl, in_X2, Or.inl rfl, Or.inl q197⟩
theorem fdX2_9_1 : sd_Fd "SofaDig$Tape" 9 1 0 := ⟨(RX2, TX2, 2), "SofaDig$Tape", rfl, by decide, rfl, in_X2, Or.inl rfl, Or.inl q196⟩
abbrev mX2_at : sd_Y := (yX2_at, cX2_at, 2, some (.int), none)
def fX2_at (G : sd_G) (a0 : Nat) (a1 : Int32) : sd_M Int32 :=
  sd_bnd (sd_getI G 1 1 a0) fun v1 =>
  if v1 ≤ a1 then (
    sd_ret 0)
  else (
    sd_bnd (sd_getR G 1 0 a0) fun v2 =>
    sd_bnd (sd_aldI G 2 v2 a1) fun v3 =>
    sd_ret (v3 &&& 255))
set_option maxHeartbeats 4000000 in
theorem sX2_at (l : Launch) (G : sd_G) (a0 : Nat) (a1 : Int32) (h : sd_H) (ρ : Int32) (cT : Nat × Nat) (h2 : sd_H) (hf : fX2_at G a0 a1 h = some (ρ, cT, h2)) : sd_Met mX2_at ((l, G), (0, 0), [.ref a0, .int a1], (sd_oI ρ, h2), cT) h := by
  refine sd_entry (plainFor_of_name rfl) rfl (Nat.le_of_ble_eq_true rfl) ?_
  show sd_J mX2_at ((l, G), (0, 0), [.ref a0, .int a1], (sd_oI ρ, h2), cT) 0 [(0, .ref a0), (1, .int a1)] [] h cT
  unfold fX2_at at hf
  refine sj_iload_n 1 dX2_at_0 rfl ?_
  refine sj_aload_n 0 dX2_at_1 rfl ?_
  refine sj_getI fdX2_15_1 hf dX2_at_2 (fun v1 hf => ?_)
  refine sj_icge 21 hf dX2_at_5 (by decide) (fun g5 hf => ?_) (fun g5 hf => ?_)
  · refine sj_iconst (v := 0) dX2_at_21 (by decide) ?_
    exact sj_iret (o := sd_oI) hf rfl rfl rfl dX2_at_22
  · refine sj_aload_n 0 dX2_at_8 rfl ?_
    refine sj_getR fdX2_9_1 hf dX2_at_9 (fun v2 hf => ?_)
    refine sj_iload_n 1 dX2_at_12 rfl ?_
    refine sj_bald hf dX2_at_13 (fun v3 hf => ?_)
    refine sj_sipush (v := 255) dX2_at_14 (by decide) ?_
    refine sj_iand dX2_at_17 ?_
    refine sj_goto 22 dX2_at_18 (by decide) ?_
    exact sj_iret (o := sd_oI) hf rfl rfl rfl dX2_at_22
/-! SofaDig$Scanner.isBlank(I)Z -/
abbrev cX8_isBlank : ByteArray := prog_19_method_4_code
def yX8_isBlank : MethodName := ⟨RX8, "isBlank", "(I)Z"⟩
def dkwX8_isBlank_0 : List UInt8 := [26, 16, 32, 159, 0, 9, 26, 16, 10, 160, 0, 7, 4, 167, 0, 4, 3, 172]
abbrev dktX8_isBlank_0 : List UInt8 := dkwX8_isBlank_0 ++ []
theorem dksX8_isBlank_0 : cX8_isBlank.data.toList.drop 0 = dktX8_isBlank_0 := by decide +kernel
theorem dX8_isBlank_0 : decode cX8_isBlank 0 = .ok (.iload_n 0, 1) := dk_26 (dk_at dksX8_isBlank_0 0 rfl rfl)
theorem dX8_isBlank_1 : decode cX8_isBlank 1 = .ok (.bipush 32, 2) := dk_16 32 (dk_at dksX8_isBlank_0 1 rfl rfl)
theorem dX8_isBlank_3 : decode cX8_isBlank 3 = .ok (.if_icmp .eq 9, 3) := dk_159 0 9 (dk_at dksX8_isBlank_0 3 rfl rfl)
theorem dX8_isBlank_6 : decode cX8_isBlank 6 = .ok (.iload_n 0, 1) := dk_26 (dk_at dksX8_isBlank_0 6 rfl rfl)
theorem dX8_isBlank_7 : decode cX8_isBlank 7 = .ok (.bipush 10, 2) := dk_16 10 (dk_at dksX8_isBlank_0 7 rfl rfl)
theorem dX8_isBlank_9 : decode cX8_isBlank 9 = .ok (.if_icmp .ne 7, 3) := dk_160 0 7 (dk_at dksX8_isBlank_0 9 rfl rfl)
theorem dX8_isBlank_12 : decode cX8_isBlank 12 = .ok (.iconst 1, 1) := dk_4 (dk_at dksX8_isBlank_0 12 rfl rfl)
theorem dX8_isBlank_13 : decode cX8_isBlank 13 = .ok (.goto 4, 3) := dk_167 0 4 (dk_at dksX8_isBlank_0 13 rfl rfl)
theorem dX8_isBlank_16 : decode cX8_isBlank 16 = .ok (.iconst 0, 1) := dk_3 (dk_at dksX8_isBlank_0 16 rfl rfl)
theorem dX8_isBlank_17 : decode cX8_isBlank 17 = .ok (.ireturn, 1) := dk_172 (dk_at dksX8_isBlank_0 17 rfl rfl)
abbrev mX8_isBlank : sd_Y := (yX8_isBlank, cX8_isBlank, 1, some (.boolean), none)
def fX8_isBlank (G : sd_G) (a1 : Int32) : sd_M Int32 :=
  if a1 = 32 then (
    sd_ret 1)
  else (
    if a1 = 10 then (
      sd_ret 1)
    else (
      sd_ret 0))
set_option maxHeartbeats 4000000 in
theorem sX8_isBlank (l : Launch) (G : sd_G) (a1 : Int32) (h : sd_H) (ρ : Int32) (cT : Nat × Nat) (h2 : sd_H) (hf : fX8_isBlank G a1 h = some (ρ, cT, h2)) : sd_Met mX8_isBlank ((l, G), (0, 0), [.int a1], (sd_oI ρ, h2), cT) h := by
  refine sd_entry (plainFor_of_name rfl) rfl (Nat.le_of_ble_eq_true rfl) ?_
  show sd_J mX8_isBlank ((l, G), (0, 0), [.int a1], (sd_oI ρ, h2), cT) 0 [(0, .int a1)] [] h cT
  unfold fX8_isBlank at hf
  refine sj_iload_n 0 dX8_isBlank_0 rfl ?_
  refine sj_bipush (v := 32) dX8_isBlank_1 (by decide) ?_
  refine sj_iceq 12 hf dX8_isBlank_3 (by decide) (fun g3 hf => ?_) (fun g3 hf => ?_)
  · refine sj_iconst (v := 1) dX8_isBlank_12 (by decide) ?_
    refine sj_goto 17 dX8_isBlank_13 (by decide) ?_
    exact sj_zretC (o := sd_oI) (ty := .boolean) rfl hf rfl rfl rfl dX8_isBlank_17
  · refine sj_iload_n 0 dX8_isBlank_6 rfl ?_
    refine sj_bipush (v := 10) dX8_isBlank_7 (by decide) ?_
    refine sj_icne 16 hf dX8_isBlank_9 (by decide) (fun g9 hf => ?_) (fun g9 hf => ?_)
    · refine sj_iconst (v := 0) dX8_isBlank_16 (by decide) ?_
      exact sj_zretC (o := sd_oI) (ty := .boolean) rfl hf rfl rfl rfl dX8_isBlank_17
    · refine sj_iconst (v := 1) dX8_isBlank_12 (by decide) ?_
      refine sj_goto 17 dX8_isBlank_13 (by decide) ?_
      exact sj_zretC (o := sd_oI) (ty := .boolean) rfl hf rfl rfl rfl dX8_isBlank_17
/-! SofaDig$Token.<init>(LSofaDig$Sort;Ljava/lang/String;I)V -/
abbrev cX9_init : ByteArray := prog_36_method_1_code
def yX9_init : MethodName := ⟨RX9, "<init>", "(LSofaDig$Sort;Ljava/lang/String;I)V"⟩
def dkwX9_init_0 : List UInt8 := [42, 183, 0, 1, 42, 43, 181, 0, 7, 42, 44, 181, 0, 13, 42, 29, 181, 0, 17, 177]
abbrev dktX9_init_0 : List UInt8 := dkwX9_init_0 ++ []
theorem dksX9_init_0 : cX9_init.data.toList.drop 0 = dktX9_init_0 := by decide +kernel
theorem dX9_init_0 : decode cX9_init 0 = .ok (.aload_n 0, 1) := dk_42 (dk_at dksX9_init_0 0 rfl rfl)
theorem dX9_init_1 : decode cX9_init 1 = .ok (.invokespecial 1, 3) := dk_183 0 1 (dk_at dksX9_init_0 1 rfl rfl)
theorem dX9_init_4 : decode cX9_init 4 = .ok (.aload_n 0, 1) := dk_42 (dk_at dksX9_init_0 4 rfl rfl)
theorem dX9_init_5 : decode cX9_init 5 = .ok (.aload_n 1, 1) := dk_43 (dk_at dksX9_init_0 5 rfl rfl)
theorem dX9_init_6 : decode cX9_init 6 = .ok (.putfield 7, 3) := dk_181 0 7 (dk_at dksX9_init_0 6 rfl rfl)
theorem dX9_init_9 : decode cX9_init 9 = .ok (.aload_n 0, 1) := dk_42 (dk_at dksX9_init_0 9 rfl rfl)
theorem dX9_init_10 : decode cX9_init 10 = .ok (.aload_n 2, 1) := dk_44 (dk_at dksX9_init_0 10 rfl rfl)
theorem dX9_init_11 : decode cX9_init 11 = .ok (.putfield 13, 3) := dk_181 0 13 (dk_at dksX9_init_0 11 rfl rfl)
theorem dX9_init_14 : decode cX9_init 14 = .ok (.aload_n 0, 1) := dk_42 (dk_at dksX9_init_0 14 rfl rfl)
theorem dX9_init_15 : decode cX9_init 15 = .ok (.iload_n 3, 1) := dk_29 (dk_at dksX9_init_0 15 rfl rfl)
theorem dX9_init_16 : decode cX9_init 16 = .ok (.putfield 17, 3) := dk_181 0 17 (dk_at dksX9_init_0 16 rfl rfl)
theorem dX9_init_19 : decode cX9_init 19 = .ok (.return_, 1) := dk_177 (dk_at dksX9_init_0 19 rfl rfl)
theorem fpX9_init_7 : sd_Fp yX9_init 7 8 0 (.object "SofaDig$Sort") := ⟨(RX9, TX9, 3), "SofaDig$Token", tyX9, rfl, by decide, rfl, in_X9, Or.inl rfl, tyX9_ok, nmX9, rfl, Or.inr ⟨rfl, rfl, rfl, q502⟩⟩
theorem fpX9_init_13 : sd_Fp yX9_init 13 8 1 (.object "java/lang/String") := ⟨(RX9, TX9, 3), "SofaDig$Token", tyX9, rfl, by decide, rfl, in_X9, Or.inl rfl, tyX9_ok, nmX9, rfl, Or.inr ⟨rfl, rfl, rfl, q505⟩⟩
theorem fpX9_init_17 : sd_Fp yX9_init 17 8 2 .int := ⟨(RX9, TX9, 3), "SofaDig$Token", tyX9, rfl, by decide, rfl, in_X9, Or.inl rfl, tyX9_ok, nmX9, rfl, Or.inr ⟨rfl, rfl, rfl, q508⟩⟩
abbrev mX9_init : sd_Y := (yX9_init, cX9_init, 4, none, none)
def fX9_init (G : sd_G) (a0 : Nat) (a1 : Nat) (a2 : Nat) (a3 : Int32) : sd_M Unit :=
  sd_bnd (sd_put 8 0 (.object "SofaDig$Sort") a0 (.ref a1)) fun _ =>
  sd_bnd (sd_put 8 1 (.object "java/lang/String") a0 (.ref a2)) fun _ =>
  sd_bnd (sd_put 8 2 .int a0 (.int a3)) fun _ =>
  sd_ret ()
set_option maxHeartbeats 4000000 in
theorem sX9_init (l : Launch) (G : sd_G) (a0 : Nat) (a1 : Nat) (a2 : Nat) (a3 : Int32) (h : sd_H) (ρ : Unit) (cT : Nat × Nat) (h2 : sd_H) (hf : fX9_init G a0 a1 a2 a3 h = some (ρ, cT, h2)) : sd_Met mX9_init ((l, G), (1, 12), [.ref a0, .ref a1, .ref a2, .int a3], (sd_oV ρ, h2), cT) h := by
  refine sd_entry (plainFor_of_name rfl) rfl (Nat.le_of_ble_eq_true rfl) ?_
  show sd_J mX9_init ((l, G), (1, 12), [.ref a0, .ref a1, .ref a2, .int a3], (sd_oV ρ, h2), cT) 0 [(0, .ref a0), (1, .ref a1), (2, .ref a2), (3, .int a3)] [] h cT
  unfold fX9_init at hf
  refine sj_aload_n 0 dX9_init_0 rfl ?_
  refine sj_objInit q501 q188 q189 (Nat.le_of_ble_eq_true rfl) (Nat.le_of_ble_eq_true rfl) dX9_init_1 ?_
  refine sj_aload_n 0 dX9_init_4 rfl ?_
  refine sj_aload_n 1 dX9_init_5 rfl ?_
  refine sj_put fpX9_init_7 hf dX9_init_6 (fun h hf => ?_)
  refine sj_aload_n 0 dX9_init_9 rfl ?_
  refine sj_aload_n 2 dX9_init_10 rfl ?_
  refine sj_put fpX9_init_13 hf dX9_init_11 (fun h hf => ?_)
  refine sj_aload_n 0 dX9_init_14 rfl ?_
  refine sj_iload_n 3 dX9_init_15 rfl ?_
  refine sj_put fpX9_init_17 hf dX9_init_16 (fun h hf => ?_)
  exact sj_vret (o := sd_oV) hf rfl rfl rfl dX9_init_19
/-! SofaDig$Scanner.isLetter(I)Z -/
abbrev cX8_isLetter : ByteArray := prog_19_method_2_code
def yX8_isLetter : MethodName := ⟨RX8, "isLetter", "(I)Z"⟩
def dkwX8_isLetter_0 : List UInt8 := [26, 16, 97, 161, 0, 13, 26, 16, 122, 163, 0, 7, 4, 167, 0, 4, 3, 172]
abbrev dktX8_isLetter_0 : List UInt8 := dkwX8_isLetter_0 ++ []
theorem dksX8_isLetter_0 : cX8_isLetter.data.toList.drop 0 = dktX8_isLetter_0 := by decide +kernel
theorem dX8_isLetter_0 : decode cX8_isLetter 0 = .ok (.iload_n 0, 1) := dk_26 (dk_at dksX8_isLetter_0 0 rfl rfl)
theorem dX8_isLetter_1 : decode cX8_isLetter 1 = .ok (.bipush 97, 2) := dk_16 97 (dk_at dksX8_isLetter_0 1 rfl rfl)
theorem dX8_isLetter_3 : decode cX8_isLetter 3 = .ok (.if_icmp .lt 13, 3) := dk_161 0 13 (dk_at dksX8_isLetter_0 3 rfl rfl)
theorem dX8_isLetter_6 : decode cX8_isLetter 6 = .ok (.iload_n 0, 1) := dk_26 (dk_at dksX8_isLetter_0 6 rfl rfl)
theorem dX8_isLetter_7 : decode cX8_isLetter 7 = .ok (.bipush 122, 2) := dk_16 122 (dk_at dksX8_isLetter_0 7 rfl rfl)
theorem dX8_isLetter_9 : decode cX8_isLetter 9 = .ok (.if_icmp .gt 7, 3) := dk_163 0 7 (dk_at dksX8_isLetter_0 9 rfl rfl)
theorem dX8_isLetter_12 : decode cX8_isLetter 12 = .ok (.iconst 1, 1) := dk_4 (dk_at dksX8_isLetter_0 12 rfl rfl)
theorem dX8_isLetter_13 : decode cX8_isLetter 13 = .ok (.goto 4, 3) := dk_167 0 4 (dk_at dksX8_isLetter_0 13 rfl rfl)
theorem dX8_isLetter_16 : decode cX8_isLetter 16 = .ok (.iconst 0, 1) := dk_3 (dk_at dksX8_isLetter_0 16 rfl rfl)
theorem dX8_isLetter_17 : decode cX8_isLetter 17 = .ok (.ireturn, 1) := dk_172 (dk_at dksX8_isLetter_0 17 rfl rfl)
abbrev mX8_isLetter : sd_Y := (yX8_isLetter, cX8_isLetter, 1, some (.boolean), none)
def fX8_isLetter (G : sd_G) (a1 : Int32) : sd_M Int32 :=
  if a1 < 97 then (
    sd_ret 0)
  else (
    if 122 < a1 then (
      sd_ret 0)
    else (
      sd_ret 1))
set_option maxHeartbeats 4000000 in
theorem sX8_isLetter (l : Launch) (G : sd_G) (a1 : Int32) (h : sd_H) (ρ : Int32) (cT : Nat × Nat) (h2 : sd_H) (hf : fX8_isLetter G a1 h = some (ρ, cT, h2)) : sd_Met mX8_isLetter ((l, G), (0, 0), [.int a1], (sd_oI ρ, h2), cT) h := by
  refine sd_entry (plainFor_of_name rfl) rfl (Nat.le_of_ble_eq_true rfl) ?_
  show sd_J mX8_isLetter ((l, G), (0, 0), [.int a1], (sd_oI ρ, h2), cT) 0 [(0, .int a1)] [] h cT
  unfold fX8_isLetter at hf
  refine sj_iload_n 0 dX8_isLetter_0 rfl ?_
  refine sj_bipush (v := 97) dX8_isLetter_1 (by decide) ?_
  refine sj_iclt 16 hf dX8_isLetter_3 (by decide) (fun g3 hf => ?_) (fun g3 hf => ?_)
  · refine sj_iconst (v := 0) dX8_isLetter_16 (by decide) ?_
    exact sj_zretC (o := sd_oI) (ty := .boolean) rfl hf rfl rfl rfl dX8_isLetter_17
  · refine sj_iload_n 0 dX8_isLetter_6 rfl ?_
    refine sj_bipush (v := 122) dX8_isLetter_7 (by decide) ?_
    refine sj_icgt 16 hf dX8_isLetter_9 (by decide) (fun g9 hf => ?_) (fun g9 hf => ?_)
    · refine sj_iconst (v := 0) dX8_isLetter_16 (by decide) ?_
      exact sj_zretC (o := sd_oI) (ty := .boolean) rfl hf rfl rfl rfl dX8_isLetter_17
    · refine sj_iconst (v := 1) dX8_isLetter_12 (by decide) ?_
      refine sj_goto 17 dX8_isLetter_13 (by decide) ?_
      exact sj_zretC (o := sd_oI) (ty := .boolean) rfl hf rfl rfl rfl dX8_isLetter_17
/-! SofaDig$Scanner.isDigit(I)Z -/
abbrev cX8_isDigit : ByteArray := prog_19_method_3_code
def yX8_isDigit : MethodName := ⟨RX8, "isDigit", "(I)Z"⟩
def dkwX8_isDigit_0 : List UInt8 := [26, 16, 48, 161, 0, 13, 26, 16, 57, 163, 0, 7, 4, 167, 0, 4, 3, 172]
abbrev dktX8_isDigit_0 : List UInt8 := dkwX8_isDigit_0 ++ []
theorem dksX8_isDigit_0 : cX8_isDigit.data.toList.drop 0 = dktX8_isDigit_0 := by decide +kernel
theorem dX8_isDigit_0 : decode cX8_isDigit 0 = .ok (.iload_n 0, 1) := dk_26 (dk_at dksX8_isDigit_0 0 rfl rfl)
theorem dX8_isDigit_1 : decode cX8_isDigit 1 = .ok (.bipush 48, 2) := dk_16 48 (dk_at dksX8_isDigit_0 1 rfl rfl)
theorem dX8_isDigit_3 : decode cX8_isDigit 3 = .ok (.if_icmp .lt 13, 3) := dk_161 0 13 (dk_at dksX8_isDigit_0 3 rfl rfl)
theorem dX8_isDigit_6 : decode cX8_isDigit 6 = .ok (.iload_n 0, 1) := dk_26 (dk_at dksX8_isDigit_0 6 rfl rfl)
theorem dX8_isDigit_7 : decode cX8_isDigit 7 = .ok (.bipush 57, 2) := dk_16 57 (dk_at dksX8_isDigit_0 7 rfl rfl)
theorem dX8_isDigit_9 : decode cX8_isDigit 9 = .ok (.if_icmp .gt 7, 3) := dk_163 0 7 (dk_at dksX8_isDigit_0 9 rfl rfl)
theorem dX8_isDigit_12 : decode cX8_isDigit 12 = .ok (.iconst 1, 1) := dk_4 (dk_at dksX8_isDigit_0 12 rfl rfl)
theorem dX8_isDigit_13 : decode cX8_isDigit 13 = .ok (.goto 4, 3) := dk_167 0 4 (dk_at dksX8_isDigit_0 13 rfl rfl)
theorem dX8_isDigit_16 : decode cX8_isDigit 16 = .ok (.iconst 0, 1) := dk_3 (dk_at dksX8_isDigit_0 16 rfl rfl)
theorem dX8_isDigit_17 : decode cX8_isDigit 17 = .ok (.ireturn, 1) := dk_172 (dk_at dksX8_isDigit_0 17 rfl rfl)
abbrev mX8_isDigit : sd_Y := (yX8_isDigit, cX8_isDigit, 1, some (.boolean), none)
def fX8_isDigit (G : sd_G) (a1 : Int32) : sd_M Int32 :=
  if a1 < 48 then (
    sd_ret 0)
  else (
    if 57 < a1 then (
      sd_ret 0)
    else (
      sd_ret 1))
set_option maxHeartbeats 4000000 in
theorem sX8_isDigit (l : Launch) (G : sd_G) (a1 : Int32) (h : sd_H) (ρ : Int32) (cT : Nat × Nat) (h2 : sd_H) (hf : fX8_isDigit G a1 h = some (ρ, cT, h2)) : sd_Met mX8_isDigit ((l, G), (0, 0), [.int a1], (sd_oI ρ, h2), cT) h := by
  refine sd_entry (plainFor_of_name rfl) rfl (Nat.le_of_ble_eq_true rfl) ?_
  show sd_J mX8_isDigit ((l, G), (0, 0), [.int a1], (sd_oI ρ, h2), cT) 0 [(0, .int a1)] [] h cT
  unfold fX8_isDigit at hf
  refine sj_iload_n 0 dX8_isDigit_0 rfl ?_
  refine sj_bipush (v := 48) dX8_isDigit_1 (by decide) ?_
  refine sj_iclt 16 hf dX8_isDigit_3 (by decide) (fun g3 hf => ?_) (fun g3 hf => ?_)
  · refine sj_iconst (v := 0) dX8_isDigit_16 (by decide) ?_
    exact sj_zretC (o := sd_oI) (ty := .boolean) rfl hf rfl rfl rfl dX8_isDigit_17
  · refine sj_iload_n 0 dX8_isDigit_6 rfl ?_
    refine sj_bipush (v := 57) dX8_isDigit_7 (by decide) ?_
    refine sj_icgt 16 hf dX8_isDigit_9 (by decide) (fun g9 hf => ?_) (fun g9 hf => ?_)
    · refine sj_iconst (v := 0) dX8_isDigit_16 (by decide) ?_
      exact sj_zretC (o := sd_oI) (ty := .boolean) rfl hf rfl rfl rfl dX8_isDigit_17
    · refine sj_iconst (v := 1) dX8_isDigit_12 (by decide) ?_
      refine sj_goto 17 dX8_isDigit_13 (by decide) ?_
      exact sj_zretC (o := sd_oI) (ty := .boolean) rfl hf rfl rfl rfl dX8_isDigit_17
/-! SofaDig$Tape.text(II)Ljava/lang/String; -/
abbrev cX2_text : ByteArray := prog_33_method_4_code
def yX2_text : MethodName := ⟨RX2, "text", "(II)Ljava/lang/String;"⟩
def dkwX2_text_1 : List UInt8 := [146, 182, 0, 26, 87, 132, 4, 1, 167, 255, 235, 45, 182, 0, 30, 176]
abbrev dktX2_text_1 : List UInt8 := dkwX2_text_1 ++ []
def dkwX2_text_0 : List UInt8 := [187, 0, 19, 89, 183, 0, 21, 78, 27, 54, 4, 21, 4, 28, 162, 0, 21, 45, 42, 21, 4, 182, 0, 22]
abbrev dktX2_text_0 : List UInt8 := dkwX2_text_0 ++ dktX2_text_1
theorem dksX2_text_0 : cX2_text.data.toList.drop 0 = dktX2_text_0 := by decide +kernel
theorem dksX2_text_1 : cX2_text.data.toList.drop 24 = dktX2_text_1 := dk_seg dksX2_text_0 24 rfl rfl
theorem dX2_text_0 : decode cX2_text 0 = .ok (.new 19, 3) := dk_187 0 19 (dk_at dksX2_text_0 0 rfl rfl)
theorem dX2_text_3 : decode cX2_text 3 = .ok (.dup, 1) := dk_89 (dk_at dksX2_text_0 3 rfl rfl)
theorem dX2_text_4 : decode cX2_text 4 = .ok (.invokespecial 21, 3) := dk_183 0 21 (dk_at dksX2_text_0 4 rfl rfl)
theorem dX2_text_7 : decode cX2_text 7 = .ok (.astore_n 3, 1) := dk_78 (dk_at dksX2_text_0 7 rfl rfl)
theorem dX2_text_8 : decode cX2_text 8 = .ok (.iload_n 1, 1) := dk_27 (dk_at dksX2_text_0 8 rfl rfl)
theorem dX2_text_9 : decode cX2_text 9 = .ok (.istore 4, 2) := dk_54 4 (dk_at dksX2_text_0 9 rfl rfl)
theorem dX2_text_11 : decode cX2_text 11 = .ok (.iload 4, 2) := dk_21 4 (dk_at dksX2_text_0 11 rfl rfl)
theorem dX2_text_13 : decode cX2_text 13 = .ok (.iload_n 2, 1) := dk_28 (dk_at dksX2_text_0 13 rfl rfl)
theorem dX2_text_14 : decode cX2_text 14 = .ok (.if_icmp .ge 21, 3) := dk_162 0 21 (dk_at dksX2_text_0 14 rfl rfl)
theorem dX2_text_17 : decode cX2_text 17 = .ok (.aload_n 3, 1) := dk_45 (dk_at dksX2_text_0 17 rfl rfl)
theorem dX2_text_18 : decode cX2_text 18 = .ok (.aload_n 0, 1) := dk_42 (dk_at dksX2_text_0 18 rfl rfl)
theorem dX2_text_19 : decode cX2_text 19 = .ok (.iload 4, 2) := dk_21 4 (dk_at dksX2_text_0 19 rfl rfl)
theorem dX2_text_21 : decode cX2_text 21 = .ok (.invokevirtual 22, 3) := dk_182 0 22 (dk_at dksX2_text_0 21 rfl rfl)
theorem dX2_text_24 : decode cX2_text 24 = .ok (.i2c, 1) := dk_146 (dk_at dksX2_text_1 0 rfl rfl)
theorem dX2_text_25 : decode cX2_text 25 = .ok (.invokevirtual 26, 3) := dk_182 0 26 (dk_at dksX2_text_1 1 rfl rfl)
theorem dX2_text_28 : decode cX2_text 28 = .ok (.pop, 1) := dk_87 (dk_at dksX2_text_1 4 rfl rfl)
theorem dX2_text_29 : decode cX2_text 29 = .ok (.iinc 4 1, 3) := dk_132 4 1 (dk_at dksX2_text_1 5 rfl rfl)
theorem dX2_text_32 : decode cX2_text 32 = .ok (.goto (-21), 3) := dk_167 255 235 (dk_at dksX2_text_1 8 rfl rfl)
theorem dX2_text_35 : decode cX2_text 35 = .ok (.aload_n 3, 1) := dk_45 (dk_at dksX2_text_1 11 rfl rfl)
theorem dX2_text_36 : decode cX2_text 36 = .ok (.invokevirtual 30, 3) := dk_182 0 30 (dk_at dksX2_text_1 12 rfl rfl)
theorem dX2_text_39 : decode cX2_text 39 = .ok (.areturn, 1) := dk_176 (dk_at dksX2_text_1 15 rfl rfl)
theorem fnX2_19 : sd_Fn "SofaDig$Tape" 19 46 4 [.null, .int 0, .int 0, .int 0] := ⟨(RJ13, TJ13, 4), tyJ13, rfl, rfl, in_J13, q527, q528, q140, tyJ13_ok, fun j hj => by revert j; decide⟩
abbrev mX2_text : sd_Y := (yX2_text, cX2_text, 5, some (.object "java/lang/String"), none)
def fX2_text_b11 (G : sd_G) (k11 : Nat × Int32 × Nat × Int32 → sd_M Nat) (w0 : Nat) (w2 : Int32) (w3 : Nat) (w4 : Int32) : sd_M Nat :=
  if w2 ≤ w4 then (
    sd_bnd (sd_isC G 46 w3) fun _ =>
    sd_bnd (fJ13_toString G w3) fun r2 =>
    sd_ret r2)
  else (
    sd_bnd (sd_isC G 1 w0) fun _ =>
    sd_bnd (fX2_at G w0 w4) fun r3 =>
    sd_bnd (sd_isC G 46 w3) fun _ =>
    sd_bnd (fJ13_append G w3 ((r3.toUInt32 % 65536).toInt32)) fun r4 =>
    sd_bnd (sd_ret (w4 + 1)) fun x5 =>
    k11 (w0, w2, w3, x5))
set_option maxHeartbeats 4000000 in
theorem sX2_text_b11 (l : Launch) (G : sd_G) (a0 : Nat) (a1 : Int32) (a2 : Int32) (ρ : Nat) (h2 : sd_H) (cT : Nat × Nat) (k11 : Nat × Int32 × Nat × Int32 → sd_M Nat) (Hk11 : ∀ (q : Nat × Int32 × Nat × Int32) (h : sd_H) (c : Nat × Nat), k11 q h = some (ρ, c, h2) → sd_J mX2_text ((l, G), (6, 133), [.ref a0, .int a1, .int a2], (sd_oR ρ, h2), cT) 11 [(0, .ref q.1), (2, .int q.2.1), (3, .ref q.2.2.1), (4, .int q.2.2.2)] [] h c) (w0 : Nat) (w2 : Int32) (w3 : Nat) (w4 : Int32) (h : sd_H) (c : Nat × Nat) (hf : fX2_text_b11 G k11 w0 w2 w3 w4 h = some (ρ, c, h2)) : sd_J mX2_text ((l, G), (6, 133), [.ref a0, .int a1, .int a2], (sd_oR ρ, h2), cT) 11 [(0, .ref w0), (2, .int w2), (3, .ref w3), (4, .int w4)] [] h c := by
  unfold fX2_text_b11 at hf
  refine sj_iload 3 dX2_text_11 rfl ?_
  refine sj_iload_n 1 dX2_text_13 rfl ?_
  refine sj_icge 35 hf dX2_text_14 (by decide) (fun g14 hf => ?_) (fun g14 hf => ?_)
  · refine sj_aload_n 2 dX2_text_35 rfl ?_
    obtain ⟨fs36, he36, hf⟩ := sd_isC_some hf
    refine sj_cR (rest := []) (fun _ _ _ e => sj_runV (n := 0) (As := []) (rest := []) (sJ13_toString l G w3 h _ _ _ e) he36 rfl rfl rfl rfl q639 q640 q641 q140 q642 (by decide +kernel) rfl rfl ⟨Nat.le_of_ble_eq_true rfl, Nat.le_of_ble_eq_true rfl⟩ rfl (Nat.le_of_ble_eq_true rfl) dX2_text_36) hf (fun r2 h c hf => ?_)
    exact sj_aret (o := sd_oR) hf rfl rfl rfl (Or.inl ⟨_, rfl⟩) dX2_text_39
  · refine sj_aload_n 2 dX2_text_17 rfl ?_
    refine sj_aload_n 0 dX2_text_18 rfl ?_
    refine sj_iload 3 dX2_text_19 rfl ?_
    obtain ⟨fs21, he21, hf⟩ := sd_isC_some hf
    refine sj_cI (rest := [.ref w3]) (fun _ _ _ e => sj_runV (n := 1) (As := [.int w4]) (rest := [.ref w3]) (sX2_at l G w0 w4 h _ _ _ e) he21 rfl rfl rfl rfl q558 q479 q480 q117 q481 (by decide +kernel) rfl rfl ⟨Nat.le_of_ble_eq_true rfl, Nat.le_of_ble_eq_true rfl⟩ rfl (Nat.le_of_ble_eq_true rfl) dX2_text_21) hf (fun r3 h c hf => ?_)
    refine sj_i2c dX2_text_24 ?_
    obtain ⟨fs25, he25, hf⟩ := sd_isC_some hf
    refine sj_cR (rest := []) (fun _ _ _ e => sj_runV (n := 1) (As := [.int ((r3.toUInt32 % 65536).toInt32)]) (rest := []) (sJ13_append l G w3 ((r3.toUInt32 % 65536).toInt32) h _ _ _ e) he25 rfl rfl rfl rfl q559 q560 q561 q140 q562 (by decide +kernel) rfl rfl ⟨Nat.le_of_ble_eq_true rfl, Nat.le_of_ble_eq_true rfl⟩ rfl (Nat.le_of_ble_eq_true rfl) dX2_text_25) hf (fun r4 h c hf => ?_)
    refine sj_pop dX2_text_28 rfl ?_
    refine sj_iincN 3 (fun x5 => [(4, .int x5), (0, .ref w0), (2, .int w2), (3, .ref w3)]) 1 hf dX2_text_29 rfl (by decide) (by decide) (fun _ => rfl) (fun x5 hf => ?_)
    refine sj_goto 11 dX2_text_32 (by decide) ?_
    exact sj_loc [1, 2, 3, 0] rfl (Hk11 (w0, w2, w3, x5) _ _ hf)
theorem sX2_text_b11_loop (l : Launch) (G : sd_G) (a0 : Nat) (a1 : Int32) (a2 : Int32) (ρ : Nat) (h2 : sd_H) (cT : Nat × Nat) (n : Nat) : ∀ (q : Nat × Int32 × Nat × Int32) (h : sd_H) (c : Nat × Nat), sd_loop (fun k s => fX2_text_b11 G k s.1 s.2.1 s.2.2.1 s.2.2.2) n q h = some (ρ, c, h2) → sd_J mX2_text ((l, G), (6, 133), [.ref a0, .int a1, .int a2], (sd_oR ρ, h2), cT) 11 [(0, .ref q.1), (2, .int q.2.1), (3, .ref q.2.2.1), (4, .int q.2.2.2)] [] h c := by
  induction n with
  | zero => intro q h c hf; cases hf
  | succ n ih => intro q h c hf; exact sX2_text_b11 l G a0 a1 a2 ρ h2 cT _ ih _ _ _ _ _ _ hf
def fX2_text (G : sd_G) (a0 : Nat) (a1 : Int32) (a2 : Int32) : sd_M Nat :=
  sd_bnd (sd_new 46 4 [.null, .int 0, .int 0, .int 0]) fun o1 =>
  sd_bnd (fJ13_init G o1) fun _ =>
  sd_loop (fun k s => fX2_text_b11 G k s.1 s.2.1 s.2.2.1 s.2.2.2) sd_FU (a0, a2, o1, a1)
set_option maxHeartbeats 4000000 in
theorem sX2_text (l : Launch) (G : sd_G) (a0 : Nat) (a1 : Int32) (a2 : Int32) (h : sd_H) (ρ : Nat) (cT : Nat × Nat) (h2 : sd_H) (hf : fX2_text G a0 a1 a2 h = some (ρ, cT, h2)) : sd_Met mX2_text ((l, G), (6, 133), [.ref a0, .int a1, .int a2], (sd_oR ρ, h2), cT) h := by
  refine sd_entry (plainFor_of_name rfl) rfl (Nat.le_of_ble_eq_true rfl) ?_
  show sd_J mX2_text ((l, G), (6, 133), [.ref a0, .int a1, .int a2], (sd_oR ρ, h2), cT) 0 [(0, .ref a0), (1, .int a1), (2, .int a2)] [] h cT
  unfold fX2_text at hf
  refine sj_new fnX2_19 hf dX2_text_0 (fun o1 h c hf => ?_)
  refine sj_dup dX2_text_3 rfl ?_
  refine sj_cV (rest := [.ref o1]) (fun _ _ _ e => sj_runI (n := 0) (a := o1) (As := []) (rest := [.ref o1]) (sJ13_init l G o1 h _ _ _ e) rfl rfl q529 q530 q140 q531 rfl (by decide +kernel) rfl rfl (fun _ z => by cases z) ⟨Nat.le_of_ble_eq_true rfl, Nat.le_of_ble_eq_true rfl⟩ rfl (Nat.le_of_ble_eq_true rfl) dX2_text_4) hf (fun h c hf => ?_)
  refine sj_astore_n [(3, .ref o1), (0, .ref a0), (1, .int a1), (2, .int a2)] dX2_text_7 (by decide) rfl ?_
  refine sj_iload_n 2 dX2_text_8 rfl ?_
  refine sj_istore [(4, .int a1), (3, .ref o1), (0, .ref a0), (1, .int a1), (2, .int a2)] dX2_text_9 (by decide) rfl ?_
  exact sj_loc [2, 4, 1, 0] rfl (sX2_text_b11_loop l G a0 a1 a2 ρ h2 cT sd_FU (a0, a2, o1, a1) _ _ hf)
/-! SofaDig$Scanner.isKey(Ljava/lang/String;)Z -/
abbrev cX8_isKey : ByteArray := prog_19_method_5_code
def yX8_isKey : MethodName := ⟨RX8, "isKey", "(Ljava/lang/String;)Z"⟩
def dkwX8_isKey_1 : List UInt8 := [182, 0, 26, 153, 0, 5, 4, 172, 132, 3, 1, 167, 255, 232, 3, 172]
abbrev dktX8_isKey_1 : List UInt8 := dkwX8_isKey_1 ++ []
def dkwX8_isKey_0 : List UInt8 := [178, 0, 22, 76, 43, 190, 61, 3, 62, 29, 28, 162, 0, 25, 43, 29, 50, 58, 4, 25, 4, 42]
abbrev dktX8_isKey_0 : List UInt8 := dkwX8_isKey_0 ++ dktX8_isKey_1
theorem dksX8_isKey_0 : cX8_isKey.data.toList.drop 0 = dktX8_isKey_0 := by decide +kernel
theorem dksX8_isKey_1 : cX8_isKey.data.toList.drop 22 = dktX8_isKey_1 := dk_seg dksX8_isKey_0 22 rfl rfl
theorem dX8_isKey_0 : decode cX8_isKey 0 = .ok (.getstatic 22, 3) := dk_178 0 22 (dk_at dksX8_isKey_0 0 rfl rfl)
theorem dX8_isKey_3 : decode cX8_isKey 3 = .ok (.astore_n 1, 1) := dk_76 (dk_at dksX8_isKey_0 3 rfl rfl)
theorem dX8_isKey_4 : decode cX8_isKey 4 = .ok (.aload_n 1, 1) := dk_43 (dk_at dksX8_isKey_0 4 rfl rfl)
theorem dX8_isKey_5 : decode cX8_isKey 5 = .ok (.arraylength, 1) := dk_190 (dk_at dksX8_isKey_0 5 rfl rfl)
theorem dX8_isKey_6 : decode cX8_isKey 6 = .ok (.istore_n 2, 1) := dk_61 (dk_at dksX8_isKey_0 6 rfl rfl)
theorem dX8_isKey_7 : decode cX8_isKey 7 = .ok (.iconst 0, 1) := dk_3 (dk_at dksX8_isKey_0 7 rfl rfl)
theorem dX8_isKey_8 : decode cX8_isKey 8 = .ok (.istore_n 3, 1) := dk_62 (dk_at dksX8_isKey_0 8 rfl rfl)
theorem dX8_isKey_9 : decode cX8_isKey 9 = .ok (.iload_n 3, 1) := dk_29 (dk_at dksX8_isKey_0 9 rfl rfl)
theorem dX8_isKey_10 : decode cX8_isKey 10 = .ok (.iload_n 2, 1) := dk_28 (dk_at dksX8_isKey_0 10 rfl rfl)
theorem dX8_isKey_11 : decode cX8_isKey 11 = .ok (.if_icmp .ge 25, 3) := dk_162 0 25 (dk_at dksX8_isKey_0 11 rfl rfl)
theorem dX8_isKey_14 : decode cX8_isKey 14 = .ok (.aload_n 1, 1) := dk_43 (dk_at dksX8_isKey_0 14 rfl rfl)
theorem dX8_isKey_15 : decode cX8_isKey 15 = .ok (.iload_n 3, 1) := dk_29 (dk_at dksX8_isKey_0 15 rfl rfl)
theorem dX8_isKey_16 : decode cX8_isKey 16 = .ok (.aaload, 1) := dk_50 (dk_at dksX8_isKey_0 16 rfl rfl)
theorem dX8_isKey_17 : decode cX8_isKey 17 = .ok (.astore 4, 2) := dk_58 4 (dk_at dksX8_isKey_0 17 rfl rfl)
theorem dX8_isKey_19 : decode cX8_isKey 19 = .ok (.aload 4, 2) := dk_25 4 (dk_at dksX8_isKey_0 19 rfl rfl)
theorem dX8_isKey_21 : decode cX8_isKey 21 = .ok (.aload_n 0, 1) := dk_42 (dk_at dksX8_isKey_0 21 rfl rfl)
theorem dX8_isKey_22 : decode cX8_isKey 22 = .ok (.invokevirtual 26, 3) := dk_182 0 26 (dk_at dksX8_isKey_1 0 rfl rfl)
theorem dX8_isKey_25 : decode cX8_isKey 25 = .ok (.ifCond .eq 5, 3) := dk_153 0 5 (dk_at dksX8_isKey_1 3 rfl rfl)
theorem dX8_isKey_28 : decode cX8_isKey 28 = .ok (.iconst 1, 1) := dk_4 (dk_at dksX8_isKey_1 6 rfl rfl)
theorem dX8_isKey_29 : decode cX8_isKey 29 = .ok (.ireturn, 1) := dk_172 (dk_at dksX8_isKey_1 7 rfl rfl)
theorem dX8_isKey_30 : decode cX8_isKey 30 = .ok (.iinc 3 1, 3) := dk_132 3 1 (dk_at dksX8_isKey_1 8 rfl rfl)
theorem dX8_isKey_33 : decode cX8_isKey 33 = .ok (.goto (-24), 3) := dk_167 255 232 (dk_at dksX8_isKey_1 11 rfl rfl)
theorem dX8_isKey_36 : decode cX8_isKey 36 = .ok (.iconst 0, 1) := dk_3 (dk_at dksX8_isKey_1 14 rfl rfl)
theorem dX8_isKey_37 : decode cX8_isKey 37 = .ok (.ireturn, 1) := dk_172 (dk_at dksX8_isKey_1 15 rfl rfl)
abbrev mX8_isKey : sd_Y := (yX8_isKey, cX8_isKey, 5, some (.boolean), none)
def fX8_isKey_b9 (G : sd_G) (k9 : Nat × Nat × Int32 × Int32 → sd_M Int32) (w0 : Nat) (w1 : Nat) (w2 : Int32) (w3 : Int32) : sd_M Int32 :=
  if w2 ≤ w3 then (
    sd_ret 0)
  else (
    sd_bnd (sd_aldR G 6 w1 w3) fun v2 =>
    sd_bnd (sd_isC G 45 v2) fun _ =>
    sd_bnd (fJ14_equals G v2 w0) fun r3 =>
    if r3 = 0 then (
      sd_bnd (sd_ret (w3 + 1)) fun x4 =>
      k9 (w0, w1, w2, x4))
    else (
      sd_ret 1))
set_option maxHeartbeats 4000000 in
theorem sX8_isKey_b9 (l : Launch) (G : sd_G) (a1 : Nat) (ρ : Int32) (h2 : sd_H) (cT : Nat × Nat) (k9 : Nat × Nat × Int32 × Int32 → sd_M Int32) (Hk9 : ∀ (q : Nat × Nat × Int32 × Int32) (h : sd_H) (c : Nat × Nat), k9 q h = some (ρ, c, h2) → sd_J mX8_isKey ((l, G), (2, 44), [.ref a1], (sd_oI ρ, h2), cT) 9 [(0, .ref q.1), (1, .ref q.2.1), (2, .int q.2.2.1), (3, .int q.2.2.2)] [] h c) (w0 : Nat) (w1 : Nat) (w2 : Int32) (w3 : Int32) (h : sd_H) (c : Nat × Nat) (hf : fX8_isKey_b9 G k9 w0 w1 w2 w3 h = some (ρ, c, h2)) : sd_J mX8_isKey ((l, G), (2, 44), [.ref a1], (sd_oI ρ, h2), cT) 9 [(0, .ref w0), (1, .ref w1), (2, .int w2), (3, .int w3)] [] h c := by
  unfold fX8_isKey_b9 at hf
  refine sj_iload_n 3 dX8_isKey_9 rfl ?_
  refine sj_iload_n 2 dX8_isKey_10 rfl ?_
  refine sj_icge 36 hf dX8_isKey_11 (by decide) (fun g11 hf => ?_) (fun g11 hf => ?_)
  · refine sj_iconst (v := 0) dX8_isKey_36 (by decide) ?_
    exact sj_zretC (o := sd_oI) (ty := .boolean) rfl hf rfl rfl rfl dX8_isKey_37
  · refine sj_aload_n 1 dX8_isKey_14 rfl ?_
    refine sj_iload_n 3 dX8_isKey_15 rfl ?_
    refine sj_aald rfl rfl hf dX8_isKey_16 (fun v2 hf => ?_)
    refine sj_astore [(4, .ref v2), (0, .ref w0), (1, .ref w1), (2, .int w2), (3, .int w3)] dX8_isKey_17 (by decide) rfl ?_
    refine sj_aload 0 dX8_isKey_19 rfl ?_
    refine sj_aload_n 1 dX8_isKey_21 rfl ?_
    obtain ⟨fs22, he22, hf⟩ := sd_isC_some hf
    refine sj_cI (rest := []) (fun _ _ _ e => sj_runV (n := 1) (As := [.ref w0]) (rest := []) (sJ14_equals l G v2 w0 h _ _ _ e) he22 rfl rfl rfl rfl q851 q852 q853 q141 q854 (by decide +kernel) rfl rfl ⟨Nat.le_of_ble_eq_true rfl, Nat.le_of_ble_eq_true rfl⟩ rfl (Nat.le_of_ble_eq_true rfl) dX8_isKey_22) hf (fun r3 h c hf => ?_)
    refine sj_ifeq 30 hf dX8_isKey_25 (by decide) (fun g25 hf => ?_) (fun g25 hf => ?_)
    · refine sj_iincN 4 (fun x4 => [(3, .int x4), (4, .ref v2), (0, .ref w0), (1, .ref w1), (2, .int w2)]) 1 hf dX8_isKey_30 rfl (by decide) (by decide) (fun _ => rfl) (fun x4 hf => ?_)
      refine sj_goto 9 dX8_isKey_33 (by decide) ?_
      exact sj_loc [2, 3, 4, 0] rfl (Hk9 (w0, w1, w2, x4) _ _ hf)
    · refine sj_iconst (v := 1) dX8_isKey_28 (by decide) ?_
      exact sj_zretC (o := sd_oI) (ty := .boolean) rfl hf rfl rfl rfl dX8_isKey_29
theorem sX8_isKey_b9_loop (l : Launch) (G : sd_G) (a1 : Nat) (ρ : Int32) (h2 : sd_H) (cT : Nat × Nat) (n : Nat) : ∀ (q : Nat × Nat × Int32 × Int32) (h : sd_H) (c : Nat × Nat), sd_loop (fun k s => fX8_isKey_b9 G k s.1 s.2.1 s.2.2.1 s.2.2.2) n q h = some (ρ, c, h2) → sd_J mX8_isKey ((l, G), (2, 44), [.ref a1], (sd_oI ρ, h2), cT) 9 [(0, .ref q.1), (1, .ref q.2.1), (2, .int q.2.2.1), (3, .int q.2.2.2)] [] h c := by
  induction n with
  | zero => intro q h c hf; cases hf
  | succ n ih => intro q h c hf; exact sX8_isKey_b9 l G a1 ρ h2 cT _ ih _ _ _ _ _ _ hf
def fX8_isKey (G : sd_G) (a1 : Nat) : sd_M Int32 :=
  sd_bnd (sd_alen G (sd_ad G 2)) fun v1 =>
  sd_loop (fun k s => fX8_isKey_b9 G k s.1 s.2.1 s.2.2.1 s.2.2.2) sd_FU (a1, (sd_ad G 2), v1, 0)
set_option maxHeartbeats 4000000 in
theorem sX8_isKey (l : Launch) (G : sd_G) (a1 : Nat) (h : sd_H) (ρ : Int32) (cT : Nat × Nat) (h2 : sd_H) (hf : fX8_isKey G a1 h = some (ρ, cT, h2)) : sd_Met mX8_isKey ((l, G), (2, 44), [.ref a1], (sd_oI ρ, h2), cT) h := by
  refine sd_entry (plainFor_of_name rfl) rfl (Nat.le_of_ble_eq_true rfl) ?_
  show sd_J mX8_isKey ((l, G), (2, 44), [.ref a1], (sd_oI ρ, h2), cT) 0 [(0, .ref a1)] [] h cT
  unfold fX8_isKey at hf
  refine sj_gets (v := .ref (sd_ad G 2)) 9 rfl rfl ⟨Or.inl q849, rfl⟩ dX8_isKey_0 ?_
  refine sj_astore_n [(1, .ref (sd_ad G 2)), (0, .ref a1)] dX8_isKey_3 (by decide) rfl ?_
  refine sj_aload_n 0 dX8_isKey_4 rfl ?_
  refine sj_alen hf dX8_isKey_5 (fun v1 hf => ?_)
  refine sj_istore_n [(2, .int v1), (1, .ref (sd_ad G 2)), (0, .ref a1)] dX8_isKey_6 (by decide) rfl ?_
  refine sj_iconst (v := 0) dX8_isKey_7 (by decide) ?_
  refine sj_istore_n [(3, .int 0), (2, .int v1), (1, .ref (sd_ad G 2)), (0, .ref a1)] dX8_isKey_8 (by decide) rfl ?_
  exact sj_loc [3, 2, 1, 0] rfl (sX8_isKey_b9_loop l G a1 ρ h2 cT sd_FU (a1, (sd_ad G 2), v1, 0) _ _ hf)
/-! SofaDig$Scanner.next(I)LSofaDig$Token; -/
abbrev cX8_next : ByteArray := prog_19_method_7_code
def yX8_next : MethodName := ⟨RX8, "next", "(I)LSofaDig$Token;"⟩
def dkwX8_next_11 : List UInt8 := [180, 0, 18, 27, 29, 182, 0, 88, 27, 183, 0, 77, 176]
abbrev dktX8_next_11 : List UInt8 := dkwX8_next_11 ++ []
def dkwX8_next_10 : List UInt8 := [158, 0, 18, 18, 104, 28, 182, 0, 106, 155, 0, 9, 178, 0, 109, 167, 0, 6, 178, 0, 59, 42]
abbrev dktX8_next_10 : List UInt8 := dkwX8_next_10 ++ dktX8_next_11
def dkwX8_next_9 : List UInt8 := [160, 0, 19, 42, 180, 0, 18, 29, 182, 0, 38, 16, 61, 160, 0, 6, 132, 3, 1, 187, 0, 54, 89, 28]
abbrev dktX8_next_9 : List UInt8 := dkwX8_next_9 ++ dktX8_next_10
def dkwX8_next_8 : List UInt8 := [42, 180, 0, 18, 27, 29, 182, 0, 88, 27, 183, 0, 77, 176, 28, 16, 60, 159, 0, 9, 28, 16, 62]
abbrev dktX8_next_8 : List UInt8 := dkwX8_next_8 ++ dktX8_next_9
def dkwX8_next_7 : List UInt8 := [167, 255, 239, 187, 0, 54, 89, 29, 27, 100, 16, 6, 164, 0, 9, 178, 0, 59, 167, 0, 6, 178, 0, 101]
abbrev dktX8_next_7 : List UInt8 := dkwX8_next_7 ++ dktX8_next_8
def dkwX8_next_6 : List UInt8 := [184, 0, 85, 153, 0, 58, 42, 180, 0, 18, 29, 182, 0, 38, 184, 0, 85, 153, 0, 9, 132, 3, 1]
abbrev dktX8_next_6 : List UInt8 := dkwX8_next_6 ++ dktX8_next_7
def dkwX8_next_5 : List UInt8 := [184, 0, 91, 153, 0, 9, 178, 0, 95, 167, 0, 6, 178, 0, 98, 25, 4, 27, 183, 0, 77, 176, 28]
abbrev dktX8_next_5 : List UInt8 := dkwX8_next_5 ++ dktX8_next_6
def dkwX8_next_4 : List UInt8 := [187, 0, 54, 89, 25, 4, 182, 0, 68, 16, 10, 164, 0, 9, 178, 0, 59, 167, 0, 20, 25, 4]
abbrev dktX8_next_4 : List UInt8 := dkwX8_next_4 ++ dktX8_next_5
def dkwX8_next_3 : List UInt8 := [184, 0, 85, 153, 0, 9, 132, 3, 1, 167, 255, 225, 42, 180, 0, 18, 27, 29, 182, 0, 88, 58, 4]
abbrev dktX8_next_3 : List UInt8 := dkwX8_next_3 ++ dktX8_next_4
def dkwX8_next_2 : List UInt8 := [42, 180, 0, 18, 29, 182, 0, 38, 184, 0, 82, 154, 0, 17, 42, 180, 0, 18, 29, 182, 0, 38]
abbrev dktX8_next_2 : List UInt8 := dkwX8_next_2 ++ dktX8_next_3
def dkwX8_next_1 : List UInt8 := [183, 0, 77, 176, 42, 180, 0, 18, 27, 182, 0, 38, 61, 27, 4, 96, 62, 28, 184, 0, 82, 153, 0, 92]
abbrev dktX8_next_1 : List UInt8 := dkwX8_next_1 ++ dktX8_next_2
def dkwX8_next_0 : List UInt8 := [42, 180, 0, 12, 182, 0, 80, 17, 1, 144, 160, 0, 17, 187, 0, 54, 89, 178, 0, 59, 18, 75, 27]
abbrev dktX8_next_0 : List UInt8 := dkwX8_next_0 ++ dktX8_next_1
theorem dksX8_next_0 : cX8_next.data.toList.drop 0 = dktX8_next_0 := by decide +kernel
theorem dksX8_next_1 : cX8_next.data.toList.drop 23 = dktX8_next_1 := dk_seg dksX8_next_0 23 rfl rfl
theorem dksX8_next_2 : cX8_next.data.toList.drop 47 = dktX8_next_2 := dk_seg dksX8_next_1 24 rfl rfl
theorem dksX8_next_3 : cX8_next.data.toList.drop 69 = dktX8_next_3 := dk_seg dksX8_next_2 22 rfl rfl
theorem dksX8_next_4 : cX8_next.data.toList.drop 92 = dktX8_next_4 := dk_seg dksX8_next_3 23 rfl rfl
theorem dksX8_next_5 : cX8_next.data.toList.drop 114 = dktX8_next_5 := dk_seg dksX8_next_4 22 rfl rfl
theorem dksX8_next_6 : cX8_next.data.toList.drop 137 = dktX8_next_6 := dk_seg dksX8_next_5 23 rfl rfl
theorem dksX8_next_7 : cX8_next.data.toList.drop 160 = dktX8_next_7 := dk_seg dksX8_next_6 23 rfl rfl
theorem dksX8_next_8 : cX8_next.data.toList.drop 184 = dktX8_next_8 := dk_seg dksX8_next_7 24 rfl rfl
theorem dksX8_next_9 : cX8_next.data.toList.drop 207 = dktX8_next_9 := dk_seg dksX8_next_8 23 rfl rfl
theorem dksX8_next_10 : cX8_next.data.toList.drop 231 = dktX8_next_10 := dk_seg dksX8_next_9 24 rfl rfl
theorem dksX8_next_11 : cX8_next.data.toList.drop 253 = dktX8_next_11 := dk_seg dksX8_next_10 22 rfl rfl
theorem dX8_next_0 : decode cX8_next 0 = .ok (.aload_n 0, 1) := dk_42 (dk_at dksX8_next_0 0 rfl rfl)
theorem dX8_next_1 : decode cX8_next 1 = .ok (.getfield 12, 3) := dk_180 0 12 (dk_at dksX8_next_0 1 rfl rfl)
theorem dX8_next_4 : decode cX8_next 4 = .ok (.invokevirtual 80, 3) := dk_182 0 80 (dk_at dksX8_next_0 4 rfl rfl)
theorem dX8_next_7 : decode cX8_next 7 = .ok (.sipush 400, 3) := dk_17 1 144 (dk_at dksX8_next_0 7 rfl rfl)
theorem dX8_next_10 : decode cX8_next 10 = .ok (.if_icmp .ne 17, 3) := dk_160 0 17 (dk_at dksX8_next_0 10 rfl rfl)
theorem dX8_next_13 : decode cX8_next 13 = .ok (.new 54, 3) := dk_187 0 54 (dk_at dksX8_next_0 13 rfl rfl)
theorem dX8_next_16 : decode cX8_next 16 = .ok (.dup, 1) := dk_89 (dk_at dksX8_next_0 16 rfl rfl)
theorem dX8_next_17 : decode cX8_next 17 = .ok (.getstatic 59, 3) := dk_178 0 59 (dk_at dksX8_next_0 17 rfl rfl)
theorem dX8_next_20 : decode cX8_next 20 = .ok (.ldc 75, 2) := dk_18 75 (dk_at dksX8_next_0 20 rfl rfl)
theorem dX8_next_22 : decode cX8_next 22 = .ok (.iload_n 1, 1) := dk_27 (dk_at dksX8_next_0 22 rfl rfl)
theorem dX8_next_23 : decode cX8_next 23 = .ok (.invokespecial 77, 3) := dk_183 0 77 (dk_at dksX8_next_1 0 rfl rfl)
theorem dX8_next_26 : decode cX8_next 26 = .ok (.areturn, 1) := dk_176 (dk_at dksX8_next_1 3 rfl rfl)
theorem dX8_next_27 : decode cX8_next 27 = .ok (.aload_n 0, 1) := dk_42 (dk_at dksX8_next_1 4 rfl rfl)
theorem dX8_next_28 : decode cX8_next 28 = .ok (.getfield 18, 3) := dk_180 0 18 (dk_at dksX8_next_1 5 rfl rfl)
theorem dX8_next_31 : decode cX8_next 31 = .ok (.iload_n 1, 1) := dk_27 (dk_at dksX8_next_1 8 rfl rfl)
theorem dX8_next_32 : decode cX8_next 32 = .ok (.invokevirtual 38, 3) := dk_182 0 38 (dk_at dksX8_next_1 9 rfl rfl)
theorem dX8_next_35 : decode cX8_next 35 = .ok (.istore_n 2, 1) := dk_61 (dk_at dksX8_next_1 12 rfl rfl)
theorem dX8_next_36 : decode cX8_next 36 = .ok (.iload_n 1, 1) := dk_27 (dk_at dksX8_next_1 13 rfl rfl)
theorem dX8_next_37 : decode cX8_next 37 = .ok (.iconst 1, 1) := dk_4 (dk_at dksX8_next_1 14 rfl rfl)
theorem dX8_next_38 : decode cX8_next 38 = .ok (.iadd, 1) := dk_96 (dk_at dksX8_next_1 15 rfl rfl)
theorem dX8_next_39 : decode cX8_next 39 = .ok (.istore_n 3, 1) := dk_62 (dk_at dksX8_next_1 16 rfl rfl)
theorem dX8_next_40 : decode cX8_next 40 = .ok (.iload_n 2, 1) := dk_28 (dk_at dksX8_next_1 17 rfl rfl)
theorem dX8_next_41 : decode cX8_next 41 = .ok (.invokestatic 82, 3) := dk_184 0 82 (dk_at dksX8_next_1 18 rfl rfl)
theorem dX8_next_44 : decode cX8_next 44 = .ok (.ifCond .eq 92, 3) := dk_153 0 92 (dk_at dksX8_next_1 21 rfl rfl)
theorem dX8_next_47 : decode cX8_next 47 = .ok (.aload_n 0, 1) := dk_42 (dk_at dksX8_next_2 0 rfl rfl)
theorem dX8_next_48 : decode cX8_next 48 = .ok (.getfield 18, 3) := dk_180 0 18 (dk_at dksX8_next_2 1 rfl rfl)
theorem dX8_next_51 : decode cX8_next 51 = .ok (.iload_n 3, 1) := dk_29 (dk_at dksX8_next_2 4 rfl rfl)
theorem dX8_next_52 : decode cX8_next 52 = .ok (.invokevirtual 38, 3) := dk_182 0 38 (dk_at dksX8_next_2 5 rfl rfl)
theorem dX8_next_55 : decode cX8_next 55 = .ok (.invokestatic 82, 3) := dk_184 0 82 (dk_at dksX8_next_2 8 rfl rfl)
theorem dX8_next_58 : decode cX8_next 58 = .ok (.ifCond .ne 17, 3) := dk_154 0 17 (dk_at dksX8_next_2 11 rfl rfl)
theorem dX8_next_61 : decode cX8_next 61 = .ok (.aload_n 0, 1) := dk_42 (dk_at dksX8_next_2 14 rfl rfl)
theorem dX8_next_62 : decode cX8_next 62 = .ok (.getfield 18, 3) := dk_180 0 18 (dk_at dksX8_next_2 15 rfl rfl)
theorem dX8_next_65 : decode cX8_next 65 = .ok (.iload_n 3, 1) := dk_29 (dk_at dksX8_next_2 18 rfl rfl)
theorem dX8_next_66 : decode cX8_next 66 = .ok (.invokevirtual 38, 3) := dk_182 0 38 (dk_at dksX8_next_2 19 rfl rfl)
theorem dX8_next_69 : decode cX8_next 69 = .ok (.invokestatic 85, 3) := dk_184 0 85 (dk_at dksX8_next_3 0 rfl rfl)
theorem dX8_next_72 : decode cX8_next 72 = .ok (.ifCond .eq 9, 3) := dk_153 0 9 (dk_at dksX8_next_3 3 rfl rfl)
theorem dX8_next_75 : decode cX8_next 75 = .ok (.iinc 3 1, 3) := dk_132 3 1 (dk_at dksX8_next_3 6 rfl rfl)
theorem dX8_next_78 : decode cX8_next 78 = .ok (.goto (-31), 3) := dk_167 255 225 (dk_at dksX8_next_3 9 rfl rfl)
theorem dX8_next_81 : decode cX8_next 81 = .ok (.aload_n 0, 1) := dk_42 (dk_at dksX8_next_3 12 rfl rfl)
theorem dX8_next_82 : decode cX8_next 82 = .ok (.getfield 18, 3) := dk_180 0 18 (dk_at dksX8_next_3 13 rfl rfl)
theorem dX8_next_85 : decode cX8_next 85 = .ok (.iload_n 1, 1) := dk_27 (dk_at dksX8_next_3 16 rfl rfl)
theorem dX8_next_86 : decode cX8_next 86 = .ok (.iload_n 3, 1) := dk_29 (dk_at dksX8_next_3 17 rfl rfl)
theorem dX8_next_87 : decode cX8_next 87 = .ok (.invokevirtual 88, 3) := dk_182 0 88 (dk_at dksX8_next_3 18 rfl rfl)
theorem dX8_next_90 : decode cX8_next 90 = .ok (.astore 4, 2) := dk_58 4 (dk_at dksX8_next_3 21 rfl rfl)
theorem dX8_next_92 : decode cX8_next 92 = .ok (.new 54, 3) := dk_187 0 54 (dk_at dksX8_next_4 0 rfl rfl)
theorem dX8_next_95 : decode cX8_next 95 = .ok (.dup, 1) := dk_89 (dk_at dksX8_next_4 3 rfl rfl)
theorem dX8_next_96 : decode cX8_next 96 = .ok (.aload 4, 2) := dk_25 4 (dk_at dksX8_next_4 4 rfl rfl)
theorem dX8_next_98 : decode cX8_next 98 = .ok (.invokevirtual 68, 3) := dk_182 0 68 (dk_at dksX8_next_4 6 rfl rfl)
theorem dX8_next_101 : decode cX8_next 101 = .ok (.bipush 10, 2) := dk_16 10 (dk_at dksX8_next_4 9 rfl rfl)
theorem dX8_next_103 : decode cX8_next 103 = .ok (.if_icmp .le 9, 3) := dk_164 0 9 (dk_at dksX8_next_4 11 rfl rfl)
theorem dX8_next_106 : decode cX8_next 106 = .ok (.getstatic 59, 3) := dk_178 0 59 (dk_at dksX8_next_4 14 rfl rfl)
theorem dX8_next_109 : decode cX8_next 109 = .ok (.goto 20, 3) := dk_167 0 20 (dk_at dksX8_next_4 17 rfl rfl)
theorem dX8_next_112 : decode cX8_next 112 = .ok (.aload 4, 2) := dk_25 4 (dk_at dksX8_next_4 20 rfl rfl)
theorem dX8_next_114 : decode cX8_next 114 = .ok (.invokestatic 91, 3) := dk_184 0 91 (dk_at dksX8_next_5 0 rfl rfl)
theorem dX8_next_117 : decode cX8_next 117 = .ok (.ifCond .eq 9, 3) := dk_153 0 9 (dk_at dksX8_next_5 3 rfl rfl)
theorem dX8_next_120 : decode cX8_next 120 = .ok (.getstatic 95, 3) := dk_178 0 95 (dk_at dksX8_next_5 6 rfl rfl)
theorem dX8_next_123 : decode cX8_next 123 = .ok (.goto 6, 3) := dk_167 0 6 (dk_at dksX8_next_5 9 rfl rfl)
theorem dX8_next_126 : decode cX8_next 126 = .ok (.getstatic 98, 3) := dk_178 0 98 (dk_at dksX8_next_5 12 rfl rfl)
theorem dX8_next_129 : decode cX8_next 129 = .ok (.aload 4, 2) := dk_25 4 (dk_at dksX8_next_5 15 rfl rfl)
theorem dX8_next_131 : decode cX8_next 131 = .ok (.iload_n 1, 1) := dk_27 (dk_at dksX8_next_5 17 rfl rfl)
theorem dX8_next_132 : decode cX8_next 132 = .ok (.invokespecial 77, 3) := dk_183 0 77 (dk_at dksX8_next_5 18 rfl rfl)
theorem dX8_next_135 : decode cX8_next 135 = .ok (.areturn, 1) := dk_176 (dk_at dksX8_next_5 21 rfl rfl)
theorem dX8_next_136 : decode cX8_next 136 = .ok (.iload_n 2, 1) := dk_28 (dk_at dksX8_next_5 22 rfl rfl)
theorem dX8_next_137 : decode cX8_next 137 = .ok (.invokestatic 85, 3) := dk_184 0 85 (dk_at dksX8_next_6 0 rfl rfl)
theorem dX8_next_140 : decode cX8_next 140 = .ok (.ifCond .eq 58, 3) := dk_153 0 58 (dk_at dksX8_next_6 3 rfl rfl)
theorem dX8_next_143 : decode cX8_next 143 = .ok (.aload_n 0, 1) := dk_42 (dk_at dksX8_next_6 6 rfl rfl)
theorem dX8_next_144 : decode cX8_next 144 = .ok (.getfield 18, 3) := dk_180 0 18 (dk_at dksX8_next_6 7 rfl rfl)
theorem dX8_next_147 : decode cX8_next 147 = .ok (.iload_n 3, 1) := dk_29 (dk_at dksX8_next_6 10 rfl rfl)
theorem dX8_next_148 : decode cX8_next 148 = .ok (.invokevirtual 38, 3) := dk_182 0 38 (dk_at dksX8_next_6 11 rfl rfl)
theorem dX8_next_151 : decode cX8_next 151 = .ok (.invokestatic 85, 3) := dk_184 0 85 (dk_at dksX8_next_6 14 rfl rfl)
theorem dX8_next_154 : decode cX8_next 154 = .ok (.ifCond .eq 9, 3) := dk_153 0 9 (dk_at dksX8_next_6 17 rfl rfl)
theorem dX8_next_157 : decode cX8_next 157 = .ok (.iinc 3 1, 3) := dk_132 3 1 (dk_at dksX8_next_6 20 rfl rfl)
theorem dX8_next_160 : decode cX8_next 160 = .ok (.goto (-17), 3) := dk_167 255 239 (dk_at dksX8_next_7 0 rfl rfl)
theorem dX8_next_163 : decode cX8_next 163 = .ok (.new 54, 3) := dk_187 0 54 (dk_at dksX8_next_7 3 rfl rfl)
theorem dX8_next_166 : decode cX8_next 166 = .ok (.dup, 1) := dk_89 (dk_at dksX8_next_7 6 rfl rfl)
theorem dX8_next_167 : decode cX8_next 167 = .ok (.iload_n 3, 1) := dk_29 (dk_at dksX8_next_7 7 rfl rfl)
theorem dX8_next_168 : decode cX8_next 168 = .ok (.iload_n 1, 1) := dk_27 (dk_at dksX8_next_7 8 rfl rfl)
theorem dX8_next_169 : decode cX8_next 169 = .ok (.isub, 1) := dk_100 (dk_at dksX8_next_7 9 rfl rfl)
theorem dX8_next_170 : decode cX8_next 170 = .ok (.bipush 6, 2) := dk_16 6 (dk_at dksX8_next_7 10 rfl rfl)
theorem dX8_next_172 : decode cX8_next 172 = .ok (.if_icmp .le 9, 3) := dk_164 0 9 (dk_at dksX8_next_7 12 rfl rfl)
theorem dX8_next_175 : decode cX8_next 175 = .ok (.getstatic 59, 3) := dk_178 0 59 (dk_at dksX8_next_7 15 rfl rfl)
theorem dX8_next_178 : decode cX8_next 178 = .ok (.goto 6, 3) := dk_167 0 6 (dk_at dksX8_next_7 18 rfl rfl)
theorem dX8_next_181 : decode cX8_next 181 = .ok (.getstatic 101, 3) := dk_178 0 101 (dk_at dksX8_next_7 21 rfl rfl)
theorem dX8_next_184 : decode cX8_next 184 = .ok (.aload_n 0, 1) := dk_42 (dk_at dksX8_next_8 0 rfl rfl)
theorem dX8_next_185 : decode cX8_next 185 = .ok (.getfield 18, 3) := dk_180 0 18 (dk_at dksX8_next_8 1 rfl rfl)
theorem dX8_next_188 : decode cX8_next 188 = .ok (.iload_n 1, 1) := dk_27 (dk_at dksX8_next_8 4 rfl rfl)
theorem dX8_next_189 : decode cX8_next 189 = .ok (.iload_n 3, 1) := dk_29 (dk_at dksX8_next_8 5 rfl rfl)
theorem dX8_next_190 : decode cX8_next 190 = .ok (.invokevirtual 88, 3) := dk_182 0 88 (dk_at dksX8_next_8 6 rfl rfl)
theorem dX8_next_193 : decode cX8_next 193 = .ok (.iload_n 1, 1) := dk_27 (dk_at dksX8_next_8 9 rfl rfl)
theorem dX8_next_194 : decode cX8_next 194 = .ok (.invokespecial 77, 3) := dk_183 0 77 (dk_at dksX8_next_8 10 rfl rfl)
theorem dX8_next_197 : decode cX8_next 197 = .ok (.areturn, 1) := dk_176 (dk_at dksX8_next_8 13 rfl rfl)
theorem dX8_next_198 : decode cX8_next 198 = .ok (.iload_n 2, 1) := dk_28 (dk_at dksX8_next_8 14 rfl rfl)
theorem dX8_next_199 : decode cX8_next 199 = .ok (.bipush 60, 2) := dk_16 60 (dk_at dksX8_next_8 15 rfl rfl)
theorem dX8_next_201 : decode cX8_next 201 = .ok (.if_icmp .eq 9, 3) := dk_159 0 9 (dk_at dksX8_next_8 17 rfl rfl)
theorem dX8_next_204 : decode cX8_next 204 = .ok (.iload_n 2, 1) := dk_28 (dk_at dksX8_next_8 20 rfl rfl)
theorem dX8_next_205 : decode cX8_next 205 = .ok (.bipush 62, 2) := dk_16 62 (dk_at dksX8_next_8 21 rfl rfl)
theorem dX8_next_207 : decode cX8_next 207 = .ok (.if_icmp .ne 19, 3) := dk_160 0 19 (dk_at dksX8_next_9 0 rfl rfl)
theorem dX8_next_210 : decode cX8_next 210 = .ok (.aload_n 0, 1) := dk_42 (dk_at dksX8_next_9 3 rfl rfl)
theorem dX8_next_211 : decode cX8_next 211 = .ok (.getfield 18, 3) := dk_180 0 18 (dk_at dksX8_next_9 4 rfl rfl)
theorem dX8_next_214 : decode cX8_next 214 = .ok (.iload_n 3, 1) := dk_29 (dk_at dksX8_next_9 7 rfl rfl)
theorem dX8_next_215 : decode cX8_next 215 = .ok (.invokevirtual 38, 3) := dk_182 0 38 (dk_at dksX8_next_9 8 rfl rfl)
theorem dX8_next_218 : decode cX8_next 218 = .ok (.bipush 61, 2) := dk_16 61 (dk_at dksX8_next_9 11 rfl rfl)
theorem dX8_next_220 : decode cX8_next 220 = .ok (.if_icmp .ne 6, 3) := dk_160 0 6 (dk_at dksX8_next_9 13 rfl rfl)
theorem dX8_next_223 : decode cX8_next 223 = .ok (.iinc 3 1, 3) := dk_132 3 1 (dk_at dksX8_next_9 16 rfl rfl)
theorem dX8_next_226 : decode cX8_next 226 = .ok (.new 54, 3) := dk_187 0 54 (dk_at dksX8_next_9 19 rfl rfl)
theorem dX8_next_229 : decode cX8_next 229 = .ok (.dup, 1) := dk_89 (dk_at dksX8_next_9 22 rfl rfl)
theorem dX8_next_230 : decode cX8_next 230 = .ok (.iload_n 2, 1) := dk_28 (dk_at dksX8_next_9 23 rfl rfl)
theorem dX8_next_231 : decode cX8_next 231 = .ok (.ifCond .le 18, 3) := dk_158 0 18 (dk_at dksX8_next_10 0 rfl rfl)
theorem dX8_next_234 : decode cX8_next 234 = .ok (.ldc 104, 2) := dk_18 104 (dk_at dksX8_next_10 3 rfl rfl)
theorem dX8_next_236 : decode cX8_next 236 = .ok (.iload_n 2, 1) := dk_28 (dk_at dksX8_next_10 5 rfl rfl)
theorem dX8_next_237 : decode cX8_next 237 = .ok (.invokevirtual 106, 3) := dk_182 0 106 (dk_at dksX8_next_10 6 rfl rfl)
theorem dX8_next_240 : decode cX8_next 240 = .ok (.ifCond .lt 9, 3) := dk_155 0 9 (dk_at dksX8_next_10 9 rfl rfl)
theorem dX8_next_243 : decode cX8_next 243 = .ok (.getstatic 109, 3) := dk_178 0 109 (dk_at dksX8_next_10 12 rfl rfl)
theorem dX8_next_246 : decode cX8_next 246 = .ok (.goto 6, 3) := dk_167 0 6 (dk_at dksX8_next_10 15 rfl rfl)
theorem dX8_next_249 : decode cX8_next 249 = .ok (.getstatic 59, 3) := dk_178 0 59 (dk_at dksX8_next_10 18 rfl rfl)
theorem dX8_next_252 : decode cX8_next 252 = .ok (.aload_n 0, 1) := dk_42 (dk_at dksX8_next_10 21 rfl rfl)
theorem dX8_next_253 : decode cX8_next 253 = .ok (.getfield 18, 3) := dk_180 0 18 (dk_at dksX8_next_11 0 rfl rfl)
theorem dX8_next_256 : decode cX8_next 256 = .ok (.iload_n 1, 1) := dk_27 (dk_at dksX8_next_11 3 rfl rfl)
theorem dX8_next_257 : decode cX8_next 257 = .ok (.iload_n 3, 1) := dk_29 (dk_at dksX8_next_11 4 rfl rfl)
theorem dX8_next_258 : decode cX8_next 258 = .ok (.invokevirtual 88, 3) := dk_182 0 88 (dk_at dksX8_next_11 5 rfl rfl)
theorem dX8_next_261 : decode cX8_next 261 = .ok (.iload_n 1, 1) := dk_27 (dk_at dksX8_next_11 8 rfl rfl)
theorem dX8_next_262 : decode cX8_next 262 = .ok (.invokespecial 77, 3) := dk_183 0 77 (dk_at dksX8_next_11 9 rfl rfl)
theorem dX8_next_265 : decode cX8_next 265 = .ok (.areturn, 1) := dk_176 (dk_at dksX8_next_11 12 rfl rfl)
theorem fdX8_12_7 : sd_Fd "SofaDig$Scanner" 12 7 1 := ⟨(RX8, TX8, 2), "SofaDig$Scanner", rfl, by decide, rfl, in_X8, Or.inl rfl, Or.inl q468⟩
theorem fdX8_18_7 : sd_Fd "SofaDig$Scanner" 18 7 0 := ⟨(RX8, TX8, 2), "SofaDig$Scanner", rfl, by decide, rfl, in_X8, Or.inl rfl, Or.inl q467⟩
theorem fnX8_54 : sd_Fn "SofaDig$Scanner" 54 8 3 [.null, .null, .int 0] := ⟨(RX9, TX9, 3), tyX9, rfl, rfl, in_X9, q493, q494, q136, tyX9_ok, fun j hj => by revert j; decide⟩
abbrev mX8_next : sd_Y := (yX8_next, cX8_next, 5, some (.object "SofaDig$Token"), none)
def fX8_next_b252 (G : sd_G) (w0 : Nat) (w1 : Int32) (w3 : Int32) (y0 : Nat) (y1 : Nat) (y2 : Nat) : sd_M Nat :=
  sd_bnd (sd_getR G 7 0 w0) fun v11 =>
  sd_bnd (sd_isC G 1 v11) fun _ =>
  sd_bnd (fX2_text G v11 w1 w3) fun r12 =>
  sd_bnd (fX9_init G y1 y0 r12 w1) fun _ =>
  sd_ret y2
set_option maxHeartbeats 4000000 in
theorem sX8_next_b252 (l : Launch) (G : sd_G) (a0 : Nat) (a1 : Int32) (ρ : Nat) (h2 : sd_H) (cT : Nat × Nat) (w0 : Nat) (w1 : Int32) (w3 : Int32) (y0 : Nat) (y1 : Nat) (y2 : Nat) (h : sd_H) (c : Nat × Nat) (hf : fX8_next_b252 G w0 w1 w3 y0 y1 y2 h = some (ρ, c, h2)) : sd_J mX8_next ((l, G), (7, 157), [.ref a0, .int a1], (sd_oR ρ, h2), cT) 252 [(0, .ref w0), (1, .int w1), (3, .int w3)] [.ref y0, .ref y1, .ref y2] h c := by
  unfold fX8_next_b252 at hf
  refine sj_aload_n 0 dX8_next_252 rfl ?_
  refine sj_getR fdX8_18_7 hf dX8_next_253 (fun v11 hf => ?_)
  refine sj_iload_n 1 dX8_next_256 rfl ?_
  refine sj_iload_n 2 dX8_next_257 rfl ?_
  obtain ⟨fs258, he258, hf⟩ := sd_isC_some hf
  refine sj_cR (rest := [.ref y0, .ref y1, .ref y2]) (fun _ _ _ e => sj_runV (n := 2) (As := [.int w1, .int w3]) (rest := [.ref y0, .ref y1, .ref y2]) (sX2_text l G v11 w1 w3 h _ _ _ e) he258 rfl rfl rfl rfl q523 q524 q525 q117 q526 (by decide +kernel) rfl rfl ⟨Nat.le_of_ble_eq_true rfl, Nat.le_of_ble_eq_true rfl⟩ rfl (Nat.le_of_ble_eq_true rfl) dX8_next_258) hf (fun r12 h c hf => ?_)
  refine sj_iload_n 1 dX8_next_261 rfl ?_
  refine sj_cV (rest := [.ref y2]) (fun _ _ _ e => sj_runI (n := 3) (a := y1) (As := [.ref y0, .ref r12, .int w1]) (rest := [.ref y2]) (sX9_init l G y1 y0 r12 w1 h _ _ _ e) rfl rfl q498 q499 q136 q500 rfl (by decide +kernel) rfl rfl (fun _ z => by cases z) ⟨Nat.le_of_ble_eq_true rfl, Nat.le_of_ble_eq_true rfl⟩ rfl (Nat.le_of_ble_eq_true rfl) dX8_next_262) hf (fun h c hf => ?_)
  exact sj_aret (o := sd_oR) hf rfl rfl rfl (Or.inl ⟨_, rfl⟩) dX8_next_265
def fX8_next_b249 (G : sd_G) (w0 : Nat) (w1 : Int32) (w3 : Int32) (y0 : Nat) (y1 : Nat) : sd_M Nat :=
  fX8_next_b252 G w0 w1 w3 (sd_ad G 1) y0 y1
set_option maxHeartbeats 4000000 in
theorem sX8_next_b249 (l : Launch) (G : sd_G) (a0 : Nat) (a1 : Int32) (ρ : Nat) (h2 : sd_H) (cT : Nat × Nat) (w0 : Nat) (w1 : Int32) (w3 : Int32) (y0 : Nat) (y1 : Nat) (h : sd_H) (c : Nat × Nat) (hf : fX8_next_b249 G w0 w1 w3 y0 y1 h = some (ρ, c, h2)) : sd_J mX8_next ((l, G), (7, 157), [.ref a0, .int a1], (sd_oR ρ, h2), cT) 249 [(0, .ref w0), (1, .int w1), (3, .int w3)] [.ref y0, .ref y1] h c := by
  unfold fX8_next_b249 at hf
  refine sj_gets (v := .ref (sd_ad G 1)) 1 rfl rfl ⟨Or.inl q495, rfl⟩ dX8_next_249 ?_
  exact sj_loc [0, 1, 2] rfl (sX8_next_b252 l G a0 a1 ρ h2 cT w0 w1 w3 (sd_ad G 1) y0 y1 _ _ hf)
def fX8_next_b226 (G : sd_G) (w0 : Nat) (w1 : Int32) (w2 : Int32) (w3 : Int32) : sd_M Nat :=
  sd_bnd (sd_new 8 3 [.null, .null, .int 0]) fun o10 =>
  if w2 ≤ 0 then (
    fX8_next_b249 G w0 w1 w3 o10 o10)
  else (
    sd_bnd (sd_isC G 45 (sd_ad G 102)) fun _ =>
    sd_bnd (fJ14_indexOf G (sd_ad G 102) w2) fun r13 =>
    if r13 < 0 then (
      fX8_next_b249 G w0 w1 w3 o10 o10)
    else (
      fX8_next_b252 G w0 w1 w3 (sd_ad G 6) o10 o10))
set_option maxHeartbeats 4000000 in
theorem sX8_next_b226 (l : Launch) (G : sd_G) (a0 : Nat) (a1 : Int32) (ρ : Nat) (h2 : sd_H) (cT : Nat × Nat) (w0 : Nat) (w1 : Int32) (w2 : Int32) (w3 : Int32) (h : sd_H) (c : Nat × Nat) (hf : fX8_next_b226 G w0 w1 w2 w3 h = some (ρ, c, h2)) : sd_J mX8_next ((l, G), (7, 157), [.ref a0, .int a1], (sd_oR ρ, h2), cT) 226 [(0, .ref w0), (1, .int w1), (2, .int w2), (3, .int w3)] [] h c := by
  unfold fX8_next_b226 at hf
  refine sj_new fnX8_54 hf dX8_next_226 (fun o10 h c hf => ?_)
  refine sj_dup dX8_next_229 rfl ?_
  refine sj_iload_n 2 dX8_next_230 rfl ?_
  refine sj_ifle 249 hf dX8_next_231 (by decide) (fun g231 hf => ?_) (fun g231 hf => ?_)
  · exact sj_loc [0, 1, 3] rfl (sX8_next_b249 l G a0 a1 ρ h2 cT w0 w1 w3 o10 o10 _ _ hf)
  · refine sj_ldcS 2 rfl dX8_next_234 ?_
    refine sj_iload_n 2 dX8_next_236 rfl ?_
    obtain ⟨fs237, he237, hf⟩ := sd_isC_some hf
    refine sj_cI (rest := [.ref o10, .ref o10]) (fun _ _ _ e => sj_runV (n := 1) (As := [.int w2]) (rest := [.ref o10, .ref o10]) (sJ14_indexOf l G (sd_ad G 102) w2 h _ _ _ e) he237 rfl rfl rfl rfl q866 q867 q868 q141 q869 (by decide +kernel) rfl rfl ⟨Nat.le_of_ble_eq_true rfl, Nat.le_of_ble_eq_true rfl⟩ rfl (Nat.le_of_ble_eq_true rfl) dX8_next_237) hf (fun r13 h c hf => ?_)
    refine sj_iflt 249 hf dX8_next_240 (by decide) (fun g240 hf => ?_) (fun g240 hf => ?_)
    · exact sj_loc [0, 1, 3] rfl (sX8_next_b249 l G a0 a1 ρ h2 cT w0 w1 w3 o10 o10 _ _ hf)
    · refine sj_gets (v := .ref (sd_ad G 6)) 13 rfl rfl ⟨Or.inl q916, rfl⟩ dX8_next_243 ?_
      refine sj_goto 252 dX8_next_246 (by decide) ?_
      exact sj_loc [0, 1, 3] rfl (sX8_next_b252 l G a0 a1 ρ h2 cT w0 w1 w3 (sd_ad G 6) o10 o10 _ _ hf)
def fX8_next_b210 (G : sd_G) (w0 : Nat) (w1 : Int32) (w2 : Int32) (w3 : Int32) : sd_M Nat :=
  sd_bnd (sd_getR G 7 0 w0) fun v8 =>
  sd_bnd (sd_isC G 1 v8) fun _ =>
  sd_bnd (fX2_at G v8 w3) fun r9 =>
  if r9 = 61 then (
    sd_bnd (sd_ret (w3 + 1)) fun x14 =>
    fX8_next_b226 G w0 w1 w2 x14)
  else (
    fX8_next_b226 G w0 w1 w2 w3)
set_option maxHeartbeats 4000000 in
theorem sX8_next_b210 (l : Launch) (G : sd_G) (a0 : Nat) (a1 : Int32) (ρ : Nat) (h2 : sd_H) (cT : Nat × Nat) (w0 : Nat) (w1 : Int32) (w2 : Int32) (w3 : Int32) (h : sd_H) (c : Nat × Nat) (hf : fX8_next_b210 G w0 w1 w2 w3 h = some (ρ, c, h2)) : sd_J mX8_next ((l, G), (7, 157), [.ref a0, .int a1], (sd_oR ρ, h2), cT) 210 [(0, .ref w0), (1, .int w1), (2, .int w2), (3, .int w3)] [] h c := by
  unfold fX8_next_b210 at hf
  refine sj_aload_n 0 dX8_next_210 rfl ?_
  refine sj_getR fdX8_18_7 hf dX8_next_211 (fun v8 hf => ?_)
  refine sj_iload_n 3 dX8_next_214 rfl ?_
  obtain ⟨fs215, he215, hf⟩ := sd_isC_some hf
  refine sj_cI (rest := []) (fun _ _ _ e => sj_runV (n := 1) (As := [.int w3]) (rest := []) (sX2_at l G v8 w3 h _ _ _ e) he215 rfl rfl rfl rfl q478 q479 q480 q117 q481 (by decide +kernel) rfl rfl ⟨Nat.le_of_ble_eq_true rfl, Nat.le_of_ble_eq_true rfl⟩ rfl (Nat.le_of_ble_eq_true rfl) dX8_next_215) hf (fun r9 h c hf => ?_)
  refine sj_bipush (v := 61) dX8_next_218 (by decide) ?_
  refine sj_icne 226 hf dX8_next_220 (by decide) (fun g220 hf => ?_) (fun g220 hf => ?_)
  · exact sj_loc [0, 1, 2, 3] rfl (sX8_next_b226 l G a0 a1 ρ h2 cT w0 w1 w2 w3 _ _ hf)
  · refine sj_iincN 3 (fun x14 => [(3, .int x14), (0, .ref w0), (1, .int w1), (2, .int w2)]) 1 hf dX8_next_223 rfl (by decide) (by decide) (fun _ => rfl) (fun x14 hf => ?_)
    exact sj_loc [1, 2, 3, 0] rfl (sX8_next_b226 l G a0 a1 ρ h2 cT w0 w1 w2 x14 _ _ hf)
def fX8_next_b184 (G : sd_G) (w0 : Nat) (w1 : Int32) (w3 : Int32) (y0 : Nat) (y1 : Nat) (y2 : Nat) : sd_M Nat :=
  sd_bnd (sd_getR G 7 0 w0) fun v19 =>
  sd_bnd (sd_isC G 1 v19) fun _ =>
  sd_bnd (fX2_text G v19 w1 w3) fun r20 =>
  sd_bnd (fX9_init G y1 y0 r20 w1) fun _ =>
  sd_ret y2
set_option maxHeartbeats 4000000 in
theorem sX8_next_b184 (l : Launch) (G : sd_G) (a0 : Nat) (a1 : Int32) (ρ : Nat) (h2 : sd_H) (cT : Nat × Nat) (w0 : Nat) (w1 : Int32) (w3 : Int32) (y0 : Nat) (y1 : Nat) (y2 : Nat) (h : sd_H) (c : Nat × Nat) (hf : fX8_next_b184 G w0 w1 w3 y0 y1 y2 h = some (ρ, c, h2)) : sd_J mX8_next ((l, G), (7, 157), [.ref a0, .int a1], (sd_oR ρ, h2), cT) 184 [(0, .ref w0), (1, .int w1), (3, .int w3)] [.ref y0, .ref y1, .ref y2] h c := by
  unfold fX8_next_b184 at hf
  refine sj_aload_n 0 dX8_next_184 rfl ?_
  refine sj_getR fdX8_18_7 hf dX8_next_185 (fun v19 hf => ?_)
  refine sj_iload_n 1 dX8_next_188 rfl ?_
  refine sj_iload_n 2 dX8_next_189 rfl ?_
  obtain ⟨fs190, he190, hf⟩ := sd_isC_some hf
  refine sj_cR (rest := [.ref y0, .ref y1, .ref y2]) (fun _ _ _ e => sj_runV (n := 2) (As := [.int w1, .int w3]) (rest := [.ref y0, .ref y1, .ref y2]) (sX2_text l G v19 w1 w3 h _ _ _ e) he190 rfl rfl rfl rfl q523 q524 q525 q117 q526 (by decide +kernel) rfl rfl ⟨Nat.le_of_ble_eq_true rfl, Nat.le_of_ble_eq_true rfl⟩ rfl (Nat.le_of_ble_eq_true rfl) dX8_next_190) hf (fun r20 h c hf => ?_)
  refine sj_iload_n 1 dX8_next_193 rfl ?_
  refine sj_cV (rest := [.ref y2]) (fun _ _ _ e => sj_runI (n := 3) (a := y1) (As := [.ref y0, .ref r20, .int w1]) (rest := [.ref y2]) (sX9_init l G y1 y0 r20 w1 h _ _ _ e) rfl rfl q498 q499 q136 q500 rfl (by decide +kernel) rfl rfl (fun _ z => by cases z) ⟨Nat.le_of_ble_eq_true rfl, Nat.le_of_ble_eq_true rfl⟩ rfl (Nat.le_of_ble_eq_true rfl) dX8_next_194) hf (fun h c hf => ?_)
  exact sj_aret (o := sd_oR) hf rfl rfl rfl (Or.inl ⟨_, rfl⟩) dX8_next_197
def fX8_next_b143 (G : sd_G) (k143 : Nat × Int32 × Int32 → sd_M Nat) (w0 : Nat) (w1 : Int32) (w3 : Int32) : sd_M Nat :=
  sd_bnd (sd_getR G 7 0 w0) fun v15 =>
  sd_bnd (sd_isC G 1 v15) fun _ =>
  sd_bnd (fX2_at G v15 w3) fun r16 =>
  sd_bnd (fX8_isDigit G r16) fun r17 =>
  if r17 = 0 then (
    sd_bnd (sd_new 8 3 [.null, .null, .int 0]) fun o18 =>
    if (w3 - w1) ≤ 6 then (
      fX8_next_b184 G w0 w1 w3 (sd_ad G 5) o18 o18)
    else (
      fX8_next_b184 G w0 w1 w3 (sd_ad G 1) o18 o18))
  else (
    sd_bnd (sd_ret (w3 + 1)) fun x21 =>
    k143 (w0, w1, x21))
set_option maxHeartbeats 4000000 in
theorem sX8_next_b143 (l : Launch) (G : sd_G) (a0 : Nat) (a1 : Int32) (ρ : Nat) (h2 : sd_H) (cT : Nat × Nat) (k143 : Nat × Int32 × Int32 → sd_M Nat) (Hk143 : ∀ (q : Nat × Int32 × Int32) (h : sd_H) (c : Nat × Nat), k143 q h = some (ρ, c, h2) → sd_J mX8_next ((l, G), (7, 157), [.ref a0, .int a1], (sd_oR ρ, h2), cT) 143 [(0, .ref q.1), (1, .int q.2.1), (3, .int q.2.2)] [] h c) (w0 : Nat) (w1 : Int32) (w3 : Int32) (h : sd_H) (c : Nat × Nat) (hf : fX8_next_b143 G k143 w0 w1 w3 h = some (ρ, c, h2)) : sd_J mX8_next ((l, G), (7, 157), [.ref a0, .int a1], (sd_oR ρ, h2), cT) 143 [(0, .ref w0), (1, .int w1), (3, .int w3)] [] h c := by
  unfold fX8_next_b143 at hf
  refine sj_aload_n 0 dX8_next_143 rfl ?_
  refine sj_getR fdX8_18_7 hf dX8_next_144 (fun v15 hf => ?_)
  refine sj_iload_n 2 dX8_next_147 rfl ?_
  obtain ⟨fs148, he148, hf⟩ := sd_isC_some hf
  refine sj_cI (rest := []) (fun _ _ _ e => sj_runV (n := 1) (As := [.int w3]) (rest := []) (sX2_at l G v15 w3 h _ _ _ e) he148 rfl rfl rfl rfl q478 q479 q480 q117 q481 (by decide +kernel) rfl rfl ⟨Nat.le_of_ble_eq_true rfl, Nat.le_of_ble_eq_true rfl⟩ rfl (Nat.le_of_ble_eq_true rfl) dX8_next_148) hf (fun r16 h c hf => ?_)
  refine sj_cI (rest := []) (fun _ _ _ e => sj_runS (n := 1) (rest := []) (sX8_isDigit l G r16 h _ _ _ e) rfl rfl q520 q521 q135 q522 (by decide +kernel) rfl ⟨Nat.le_of_ble_eq_true rfl, Nat.le_of_ble_eq_true rfl⟩ rfl (Nat.le_of_ble_eq_true rfl) dX8_next_151) hf (fun r17 h c hf => ?_)
  refine sj_ifeq 163 hf dX8_next_154 (by decide) (fun g154 hf => ?_) (fun g154 hf => ?_)
  · refine sj_new fnX8_54 hf dX8_next_163 (fun o18 h c hf => ?_)
    refine sj_dup dX8_next_166 rfl ?_
    refine sj_iload_n 2 dX8_next_167 rfl ?_
    refine sj_iload_n 1 dX8_next_168 rfl ?_
    refine sj_isub dX8_next_169 ?_
    refine sj_bipush (v := 6) dX8_next_170 (by decide) ?_
    refine sj_icle 181 hf dX8_next_172 (by decide) (fun g172 hf => ?_) (fun g172 hf => ?_)
    · refine sj_gets (v := .ref (sd_ad G 5)) 12 rfl rfl ⟨Or.inl q863, rfl⟩ dX8_next_181 ?_
      exact sj_loc [0, 1, 2] rfl (sX8_next_b184 l G a0 a1 ρ h2 cT w0 w1 w3 (sd_ad G 5) o18 o18 _ _ hf)
    · refine sj_gets (v := .ref (sd_ad G 1)) 1 rfl rfl ⟨Or.inl q495, rfl⟩ dX8_next_175 ?_
      refine sj_goto 184 dX8_next_178 (by decide) ?_
      exact sj_loc [0, 1, 2] rfl (sX8_next_b184 l G a0 a1 ρ h2 cT w0 w1 w3 (sd_ad G 1) o18 o18 _ _ hf)
  · refine sj_iincN 2 (fun x21 => [(3, .int x21), (0, .ref w0), (1, .int w1)]) 1 hf dX8_next_157 rfl (by decide) (by decide) (fun _ => rfl) (fun x21 hf => ?_)
    refine sj_goto 143 dX8_next_160 (by decide) ?_
    exact sj_loc [1, 2, 0] rfl (Hk143 (w0, w1, x21) _ _ hf)
theorem sX8_next_b143_loop (l : Launch) (G : sd_G) (a0 : Nat) (a1 : Int32) (ρ : Nat) (h2 : sd_H) (cT : Nat × Nat) (n : Nat) : ∀ (q : Nat × Int32 × Int32) (h : sd_H) (c : Nat × Nat), sd_loop (fun k s => fX8_next_b143 G k s.1 s.2.1 s.2.2) n q h = some (ρ, c, h2) → sd_J mX8_next ((l, G), (7, 157), [.ref a0, .int a1], (sd_oR ρ, h2), cT) 143 [(0, .ref q.1), (1, .int q.2.1), (3, .int q.2.2)] [] h c := by
  induction n with
  | zero => intro q h c hf; cases hf
  | succ n ih => intro q h c hf; exact sX8_next_b143 l G a0 a1 ρ h2 cT _ ih _ _ _ _ _ hf
def fX8_next_b47 (G : sd_G) (k47 : Nat × Int32 × Int32 → sd_M Nat) (w0 : Nat) (w1 : Int32) (w3 : Int32) : sd_M Nat :=
  sd_bnd (sd_getR G 7 0 w0) fun v22 =>
  sd_bnd (sd_isC G 1 v22) fun _ =>
  sd_bnd (fX2_at G v22 w3) fun r23 =>
  sd_bnd (fX8_isLetter G r23) fun r24 =>
  if r24 = 0 then (
    sd_bnd (sd_getR G 7 0 w0) fun v26 =>
    sd_bnd (sd_isC G 1 v26) fun _ =>
    sd_bnd (fX2_at G v26 w3) fun r27 =>
    sd_bnd (fX8_isDigit G r27) fun r28 =>
    if r28 = 0 then (
      sd_bnd (sd_getR G 7 0 w0) fun v29 =>
      sd_bnd (sd_isC G 1 v29) fun _ =>
      sd_bnd (fX2_text G v29 w1 w3) fun r30 =>
      sd_bnd (sd_new 8 3 [.null, .null, .int 0]) fun o31 =>
      sd_bnd (sd_isC G 45 r30) fun _ =>
      sd_bnd (fJ14_length G r30) fun r32 =>
      if r32 ≤ 10 then (
        sd_bnd (fX8_isKey G r30) fun r33 =>
        if r33 = 0 then (
          sd_bnd (fX9_init G o31 (sd_ad G 4) r30 w1) fun _ =>
          sd_ret o31)
        else (
          sd_bnd (fX9_init G o31 (sd_ad G 3) r30 w1) fun _ =>
          sd_ret o31))
      else (
        sd_bnd (fX9_init G o31 (sd_ad G 1) r30 w1) fun _ =>
        sd_ret o31))
    else (
      sd_bnd (sd_ret (w3 + 1)) fun x34 =>
      k47 (w0, w1, x34)))
  else (
    sd_bnd (sd_ret (w3 + 1)) fun x25 =>
    k47 (w0, w1, x25))
set_option maxHeartbeats 4000000 in
theorem sX8_next_b47 (l : Launch) (G : sd_G) (a0 : Nat) (a1 : Int32) (ρ : Nat) (h2 : sd_H) (cT : Nat × Nat) (k47 : Nat × Int32 × Int32 → sd_M Nat) (Hk47 : ∀ (q : Nat × Int32 × Int32) (h : sd_H) (c : Nat × Nat), k47 q h = some (ρ, c, h2) → sd_J mX8_next ((l, G), (7, 157), [.ref a0, .int a1], (sd_oR ρ, h2), cT) 47 [(0, .ref q.1), (1, .int q.2.1), (3, .int q.2.2)] [] h c) (w0 : Nat) (w1 : Int32) (w3 : Int32) (h : sd_H) (c : Nat × Nat) (hf : fX8_next_b47 G k47 w0 w1 w3 h = some (ρ, c, h2)) : sd_J mX8_next ((l, G), (7, 157), [.ref a0, .int a1], (sd_oR ρ, h2), cT) 47 [(0, .ref w0), (1, .int w1), (3, .int w3)] [] h c := by
  unfold fX8_next_b47 at hf
  refine sj_aload_n 0 dX8_next_47 rfl ?_
  refine sj_getR fdX8_18_7 hf dX8_next_48 (fun v22 hf => ?_)
  refine sj_iload_n 2 dX8_next_51 rfl ?_
  obtain ⟨fs52, he52, hf⟩ := sd_isC_some hf
  refine sj_cI (rest := []) (fun _ _ _ e => sj_runV (n := 1) (As := [.int w3]) (rest := []) (sX2_at l G v22 w3 h _ _ _ e) he52 rfl rfl rfl rfl q478 q479 q480 q117 q481 (by decide +kernel) rfl rfl ⟨Nat.le_of_ble_eq_true rfl, Nat.le_of_ble_eq_true rfl⟩ rfl (Nat.le_of_ble_eq_true rfl) dX8_next_52) hf (fun r23 h c hf => ?_)
  refine sj_cI (rest := []) (fun _ _ _ e => sj_runS (n := 1) (rest := []) (sX8_isLetter l G r23 h _ _ _ e) rfl rfl q517 q518 q135 q519 (by decide +kernel) rfl ⟨Nat.le_of_ble_eq_true rfl, Nat.le_of_ble_eq_true rfl⟩ rfl (Nat.le_of_ble_eq_true rfl) dX8_next_55) hf (fun r24 h c hf => ?_)
  refine sj_ifne 75 hf dX8_next_58 (by decide) (fun g58 hf => ?_) (fun g58 hf => ?_)
  · refine sj_iincN 2 (fun x25 => [(3, .int x25), (0, .ref w0), (1, .int w1)]) 1 hf dX8_next_75 rfl (by decide) (by decide) (fun _ => rfl) (fun x25 hf => ?_)
    refine sj_goto 47 dX8_next_78 (by decide) ?_
    exact sj_loc [1, 2, 0] rfl (Hk47 (w0, w1, x25) _ _ hf)
  · refine sj_aload_n 0 dX8_next_61 rfl ?_
    refine sj_getR fdX8_18_7 hf dX8_next_62 (fun v26 hf => ?_)
    refine sj_iload_n 2 dX8_next_65 rfl ?_
    obtain ⟨fs66, he66, hf⟩ := sd_isC_some hf
    refine sj_cI (rest := []) (fun _ _ _ e => sj_runV (n := 1) (As := [.int w3]) (rest := []) (sX2_at l G v26 w3 h _ _ _ e) he66 rfl rfl rfl rfl q478 q479 q480 q117 q481 (by decide +kernel) rfl rfl ⟨Nat.le_of_ble_eq_true rfl, Nat.le_of_ble_eq_true rfl⟩ rfl (Nat.le_of_ble_eq_true rfl) dX8_next_66) hf (fun r27 h c hf => ?_)
    refine sj_cI (rest := []) (fun _ _ _ e => sj_runS (n := 1) (rest := []) (sX8_isDigit l G r27 h _ _ _ e) rfl rfl q520 q521 q135 q522 (by decide +kernel) rfl ⟨Nat.le_of_ble_eq_true rfl, Nat.le_of_ble_eq_true rfl⟩ rfl (Nat.le_of_ble_eq_true rfl) dX8_next_69) hf (fun r28 h c hf => ?_)
    refine sj_ifeq 81 hf dX8_next_72 (by decide) (fun g72 hf => ?_) (fun g72 hf => ?_)
    · refine sj_aload_n 0 dX8_next_81 rfl ?_
      refine sj_getR fdX8_18_7 hf dX8_next_82 (fun v29 hf => ?_)
      refine sj_iload_n 1 dX8_next_85 rfl ?_
      refine sj_iload_n 2 dX8_next_86 rfl ?_
      obtain ⟨fs87, he87, hf⟩ := sd_isC_some hf
      refine sj_cR (rest := []) (fun _ _ _ e => sj_runV (n := 2) (As := [.int w1, .int w3]) (rest := []) (sX2_text l G v29 w1 w3 h _ _ _ e) he87 rfl rfl rfl rfl q523 q524 q525 q117 q526 (by decide +kernel) rfl rfl ⟨Nat.le_of_ble_eq_true rfl, Nat.le_of_ble_eq_true rfl⟩ rfl (Nat.le_of_ble_eq_true rfl) dX8_next_87) hf (fun r30 h c hf => ?_)
      refine sj_astore [(4, .ref r30), (0, .ref w0), (1, .int w1), (3, .int w3)] dX8_next_90 (by decide) rfl ?_
      refine sj_new fnX8_54 hf dX8_next_92 (fun o31 h c hf => ?_)
      refine sj_dup dX8_next_95 rfl ?_
      refine sj_aload 0 dX8_next_96 rfl ?_
      obtain ⟨fs98, he98, hf⟩ := sd_isC_some hf
      refine sj_cI (rest := [.ref o31, .ref o31]) (fun _ _ _ e => sj_runV (n := 0) (As := []) (rest := [.ref o31, .ref o31]) (sJ14_length l G r30 h _ _ _ e) he98 rfl rfl rfl rfl q845 q770 q771 q141 q772 (by decide +kernel) rfl rfl ⟨Nat.le_of_ble_eq_true rfl, Nat.le_of_ble_eq_true rfl⟩ rfl (Nat.le_of_ble_eq_true rfl) dX8_next_98) hf (fun r32 h c hf => ?_)
      refine sj_bipush (v := 10) dX8_next_101 (by decide) ?_
      refine sj_icle 112 hf dX8_next_103 (by decide) (fun g103 hf => ?_) (fun g103 hf => ?_)
      · refine sj_aload 0 dX8_next_112 rfl ?_
        refine sj_cI (rest := [.ref o31, .ref o31]) (fun _ _ _ e => sj_runS (n := 1) (rest := [.ref o31, .ref o31]) (sX8_isKey l G r30 h _ _ _ e) rfl rfl q846 q847 q135 q848 (by decide +kernel) rfl ⟨Nat.le_of_ble_eq_true rfl, Nat.le_of_ble_eq_true rfl⟩ rfl (Nat.le_of_ble_eq_true rfl) dX8_next_114) hf (fun r33 h c hf => ?_)
        refine sj_ifeq 126 hf dX8_next_117 (by decide) (fun g117 hf => ?_) (fun g117 hf => ?_)
        · refine sj_gets (v := .ref (sd_ad G 4)) 11 rfl rfl ⟨Or.inl q861, rfl⟩ dX8_next_126 ?_
          refine sj_aload 0 dX8_next_129 rfl ?_
          refine sj_iload_n 2 dX8_next_131 rfl ?_
          refine sj_cV (rest := [.ref o31]) (fun _ _ _ e => sj_runI (n := 3) (a := o31) (As := [.ref (sd_ad G 4), .ref r30, .int w1]) (rest := [.ref o31]) (sX9_init l G o31 (sd_ad G 4) r30 w1 h _ _ _ e) rfl rfl q498 q499 q136 q500 rfl (by decide +kernel) rfl rfl (fun _ z => by cases z) ⟨Nat.le_of_ble_eq_true rfl, Nat.le_of_ble_eq_true rfl⟩ rfl (Nat.le_of_ble_eq_true rfl) dX8_next_132) hf (fun h c hf => ?_)
          exact sj_aret (o := sd_oR) hf rfl rfl rfl (Or.inl ⟨_, rfl⟩) dX8_next_135
        · refine sj_gets (v := .ref (sd_ad G 3)) 10 rfl rfl ⟨Or.inl q859, rfl⟩ dX8_next_120 ?_
          refine sj_goto 129 dX8_next_123 (by decide) ?_
          refine sj_aload 0 dX8_next_129 rfl ?_
          refine sj_iload_n 2 dX8_next_131 rfl ?_
          refine sj_cV (rest := [.ref o31]) (fun _ _ _ e => sj_runI (n := 3) (a := o31) (As := [.ref (sd_ad G 3), .ref r30, .int w1]) (rest := [.ref o31]) (sX9_init l G o31 (sd_ad G 3) r30 w1 h _ _ _ e) rfl rfl q498 q499 q136 q500 rfl (by decide +kernel) rfl rfl (fun _ z => by cases z) ⟨Nat.le_of_ble_eq_true rfl, Nat.le_of_ble_eq_true rfl⟩ rfl (Nat.le_of_ble_eq_true rfl) dX8_next_132) hf (fun h c hf => ?_)
          exact sj_aret (o := sd_oR) hf rfl rfl rfl (Or.inl ⟨_, rfl⟩) dX8_next_135
      · refine sj_gets (v := .ref (sd_ad G 1)) 1 rfl rfl ⟨Or.inl q495, rfl⟩ dX8_next_106 ?_
        refine sj_goto 129 dX8_next_109 (by decide) ?_
        refine sj_aload 0 dX8_next_129 rfl ?_
        refine sj_iload_n 2 dX8_next_131 rfl ?_
        refine sj_cV (rest := [.ref o31]) (fun _ _ _ e => sj_runI (n := 3) (a := o31) (As := [.ref (sd_ad G 1), .ref r30, .int w1]) (rest := [.ref o31]) (sX9_init l G o31 (sd_ad G 1) r30 w1 h _ _ _ e) rfl rfl q498 q499 q136 q500 rfl (by decide +kernel) rfl rfl (fun _ z => by cases z) ⟨Nat.le_of_ble_eq_true rfl, Nat.le_of_ble_eq_true rfl⟩ rfl (Nat.le_of_ble_eq_true rfl) dX8_next_132) hf (fun h c hf => ?_)
        exact sj_aret (o := sd_oR) hf rfl rfl rfl (Or.inl ⟨_, rfl⟩) dX8_next_135
    · refine sj_iincN 2 (fun x34 => [(3, .int x34), (0, .ref w0), (1, .int w1)]) 1 hf dX8_next_75 rfl (by decide) (by decide) (fun _ => rfl) (fun x34 hf => ?_)
      refine sj_goto 47 dX8_next_78 (by decide) ?_
      exact sj_loc [1, 2, 0] rfl (Hk47 (w0, w1, x34) _ _ hf)
theorem sX8_next_b47_loop (l : Launch) (G : sd_G) (a0 : Nat) (a1 : Int32) (ρ : Nat) (h2 : sd_H) (cT : Nat × Nat) (n : Nat) : ∀ (q : Nat × Int32 × Int32) (h : sd_H) (c : Nat × Nat), sd_loop (fun k s => fX8_next_b47 G k s.1 s.2.1 s.2.2) n q h = some (ρ, c, h2) → sd_J mX8_next ((l, G), (7, 157), [.ref a0, .int a1], (sd_oR ρ, h2), cT) 47 [(0, .ref q.1), (1, .int q.2.1), (3, .int q.2.2)] [] h c := by
  induction n with
  | zero => intro q h c hf; cases hf
  | succ n ih => intro q h c hf; exact sX8_next_b47 l G a0 a1 ρ h2 cT _ ih _ _ _ _ _ hf
def fX8_next (G : sd_G) (a0 : Nat) (a1 : Int32) : sd_M Nat :=
  sd_bnd (sd_getR G 7 1 a0) fun v1 =>
  sd_bnd (sd_isC G 41 v1) fun _ =>
  sd_bnd (fJ2_size G v1) fun r2 =>
  if r2 = 400 then (
    sd_bnd (sd_new 8 3 [.null, .null, .int 0]) fun o35 =>
    sd_bnd (fX9_init G o35 (sd_ad G 1) (sd_ad G 100) a1) fun _ =>
    sd_ret o35)
  else (
    sd_bnd (sd_getR G 7 0 a0) fun v3 =>
    sd_bnd (sd_isC G 1 v3) fun _ =>
    sd_bnd (fX2_at G v3 a1) fun r4 =>
    sd_bnd (sd_ret (a1 + 1)) fun x5 =>
    sd_bnd (fX8_isLetter G r4) fun r6 =>
    if r6 = 0 then (
      sd_bnd (fX8_isDigit G r4) fun r7 =>
      if r7 = 0 then (
        if r4 = 60 then (
          fX8_next_b210 G a0 a1 r4 x5)
        else (
          if r4 = 62 then (
            fX8_next_b210 G a0 a1 r4 x5)
          else (
            fX8_next_b226 G a0 a1 r4 x5)))
      else (
        sd_loop (fun k s => fX8_next_b143 G k s.1 s.2.1 s.2.2) sd_FU (a0, a1, x5)))
    else (
      sd_loop (fun k s => fX8_next_b47 G k s.1 s.2.1 s.2.2) sd_FU (a0, a1, x5)))
set_option maxHeartbeats 4000000 in
theorem sX8_next (l : Launch) (G : sd_G) (a0 : Nat) (a1 : Int32) (h : sd_H) (ρ : Nat) (cT : Nat × Nat) (h2 : sd_H) (hf : fX8_next G a0 a1 h = some (ρ, cT, h2)) : sd_Met mX8_next ((l, G), (7, 157), [.ref a0, .int a1], (sd_oR ρ, h2), cT) h := by
  refine sd_entry (plainFor_of_name rfl) rfl (Nat.le_of_ble_eq_true rfl) ?_
  show sd_J mX8_next ((l, G), (7, 157), [.ref a0, .int a1], (sd_oR ρ, h2), cT) 0 [(0, .ref a0), (1, .int a1)] [] h cT
  unfold fX8_next at hf
  refine sj_aload_n 0 dX8_next_0 rfl ?_
  refine sj_getR fdX8_12_7 hf dX8_next_1 (fun v1 hf => ?_)
  obtain ⟨fs4, he4, hf⟩ := sd_isC_some hf
  refine sj_cI (rest := []) (fun _ _ _ e => sj_runV (n := 0) (As := []) (rest := []) (sJ2_size l G v1 h _ _ _ e) he4 rfl rfl rfl rfl q489 q490 q491 q121 q492 (by decide +kernel) rfl rfl ⟨Nat.le_of_ble_eq_true rfl, Nat.le_of_ble_eq_true rfl⟩ rfl (Nat.le_of_ble_eq_true rfl) dX8_next_4) hf (fun r2 h c hf => ?_)
  refine sj_sipush (v := 400) dX8_next_7 (by decide) ?_
  refine sj_icne 27 hf dX8_next_10 (by decide) (fun g10 hf => ?_) (fun g10 hf => ?_)
  · refine sj_aload_n 0 dX8_next_27 rfl ?_
    refine sj_getR fdX8_18_7 hf dX8_next_28 (fun v3 hf => ?_)
    refine sj_iload_n 1 dX8_next_31 rfl ?_
    obtain ⟨fs32, he32, hf⟩ := sd_isC_some hf
    refine sj_cI (rest := []) (fun _ _ _ e => sj_runV (n := 1) (As := [.int a1]) (rest := []) (sX2_at l G v3 a1 h _ _ _ e) he32 rfl rfl rfl rfl q478 q479 q480 q117 q481 (by decide +kernel) rfl rfl ⟨Nat.le_of_ble_eq_true rfl, Nat.le_of_ble_eq_true rfl⟩ rfl (Nat.le_of_ble_eq_true rfl) dX8_next_32) hf (fun r4 h c hf => ?_)
    refine sj_istore_n [(2, .int r4), (0, .ref a0), (1, .int a1)] dX8_next_35 (by decide) rfl ?_
    refine sj_iload_n 2 dX8_next_36 rfl ?_
    refine sj_iconst (v := 1) dX8_next_37 (by decide) ?_
    refine sj_iadd dX8_next_38 ?_
    refine sj_nameI hf (fun x5 hf => ?_)
    refine sj_istore_n [(3, .int x5), (2, .int r4), (0, .ref a0), (1, .int a1)] dX8_next_39 (by decide) rfl ?_
    refine sj_iload_n 1 dX8_next_40 rfl ?_
    refine sj_cI (rest := []) (fun _ _ _ e => sj_runS (n := 1) (rest := []) (sX8_isLetter l G r4 h _ _ _ e) rfl rfl q517 q518 q135 q519 (by decide +kernel) rfl ⟨Nat.le_of_ble_eq_true rfl, Nat.le_of_ble_eq_true rfl⟩ rfl (Nat.le_of_ble_eq_true rfl) dX8_next_41) hf (fun r6 h c hf => ?_)
    refine sj_ifeq 136 hf dX8_next_44 (by decide) (fun g44 hf => ?_) (fun g44 hf => ?_)
    · refine sj_iload_n 1 dX8_next_136 rfl ?_
      refine sj_cI (rest := []) (fun _ _ _ e => sj_runS (n := 1) (rest := []) (sX8_isDigit l G r4 h _ _ _ e) rfl rfl q520 q521 q135 q522 (by decide +kernel) rfl ⟨Nat.le_of_ble_eq_true rfl, Nat.le_of_ble_eq_true rfl⟩ rfl (Nat.le_of_ble_eq_true rfl) dX8_next_137) hf (fun r7 h c hf => ?_)
      refine sj_ifeq 198 hf dX8_next_140 (by decide) (fun g140 hf => ?_) (fun g140 hf => ?_)
      · refine sj_iload_n 1 dX8_next_198 rfl ?_
        refine sj_bipush (v := 60) dX8_next_199 (by decide) ?_
        refine sj_iceq 210 hf dX8_next_201 (by decide) (fun g201 hf => ?_) (fun g201 hf => ?_)
        · exact sj_loc [2, 3, 1, 0] rfl (sX8_next_b210 l G a0 a1 ρ h2 cT a0 a1 r4 x5 _ _ hf)
        · refine sj_iload_n 1 dX8_next_204 rfl ?_
          refine sj_bipush (v := 62) dX8_next_205 (by decide) ?_
          refine sj_icne 226 hf dX8_next_207 (by decide) (fun g207 hf => ?_) (fun g207 hf => ?_)
          · exact sj_loc [2, 3, 1, 0] rfl (sX8_next_b226 l G a0 a1 ρ h2 cT a0 a1 r4 x5 _ _ hf)
          · exact sj_loc [2, 3, 1, 0] rfl (sX8_next_b210 l G a0 a1 ρ h2 cT a0 a1 r4 x5 _ _ hf)
      · exact sj_loc [2, 3, 0] rfl (sX8_next_b143_loop l G a0 a1 ρ h2 cT sd_FU (a0, a1, x5) _ _ hf)
    · exact sj_loc [2, 3, 0] rfl (sX8_next_b47_loop l G a0 a1 ρ h2 cT sd_FU (a0, a1, x5) _ _ hf)
  · refine sj_new fnX8_54 hf dX8_next_13 (fun o35 h c hf => ?_)
    refine sj_dup dX8_next_16 rfl ?_
    refine sj_gets (v := .ref (sd_ad G 1)) 1 rfl rfl ⟨Or.inl q495, rfl⟩ dX8_next_17 ?_
    refine sj_ldcS 0 rfl dX8_next_20 ?_
    refine sj_iload_n 1 dX8_next_22 rfl ?_
    refine sj_cV (rest := [.ref o35]) (fun _ _ _ e => sj_runI (n := 3) (a := o35) (As := [.ref (sd_ad G 1), .ref (sd_ad G 100), .int a1]) (rest := [.ref o35]) (sX9_init l G o35 (sd_ad G 1) (sd_ad G 100) a1 h _ _ _ e) rfl rfl q498 q499 q136 q500 rfl (by decide +kernel) rfl rfl (fun _ z => by cases z) ⟨Nat.le_of_ble_eq_true rfl, Nat.le_of_ble_eq_true rfl⟩ rfl (Nat.le_of_ble_eq_true rfl) dX8_next_23) hf (fun h c hf => ?_)
    exact sj_aret (o := sd_oR) hf rfl rfl rfl (Or.inl ⟨_, rfl⟩) dX8_next_26
/-! SofaDig$Scanner.all()Ljava/util/List; -/
abbrev cX8_all : ByteArray := prog_19_method_6_code
def yX8_all : MethodName := ⟨RX8, "all", "()Ljava/util/List;"⟩
def dkwX8_all_4 : List UInt8 := [183, 0, 77, 182, 0, 50, 87, 42, 180, 0, 12, 176]
abbrev dktX8_all_4 : List UInt8 := dkwX8_all_4 ++ []
def dkwX8_all_3 : List UInt8 := [60, 167, 255, 185, 42, 180, 0, 12, 187, 0, 54, 89, 178, 0, 72, 18, 75, 42, 180, 0, 18, 180, 0, 32]
abbrev dktX8_all_3 : List UInt8 := dkwX8_all_3 ++ dktX8_all_4
def dkwX8_all_2 : List UInt8 := [44, 180, 0, 53, 178, 0, 59, 166, 0, 8, 42, 180, 0, 12, 176, 27, 44, 180, 0, 64, 182, 0, 68, 96]
abbrev dktX8_all_2 : List UInt8 := dkwX8_all_2 ++ dktX8_all_3
def dkwX8_all_1 : List UInt8 := [153, 0, 9, 132, 1, 1, 167, 255, 228, 42, 27, 182, 0, 46, 77, 42, 180, 0, 12, 44, 182, 0, 50, 87]
abbrev dktX8_all_1 : List UInt8 := dkwX8_all_1 ++ dktX8_all_2
def dkwX8_all_0 : List UInt8 := [3, 60, 27, 42, 180, 0, 18, 180, 0, 32, 162, 0, 66, 42, 180, 0, 18, 27, 182, 0, 38, 184, 0, 42]
abbrev dktX8_all_0 : List UInt8 := dkwX8_all_0 ++ dktX8_all_1
theorem dksX8_all_0 : cX8_all.data.toList.drop 0 = dktX8_all_0 := by decide +kernel
theorem dksX8_all_1 : cX8_all.data.toList.drop 24 = dktX8_all_1 := dk_seg dksX8_all_0 24 rfl rfl
theorem dksX8_all_2 : cX8_all.data.toList.drop 48 = dktX8_all_2 := dk_seg dksX8_all_1 24 rfl rfl
theorem dksX8_all_3 : cX8_all.data.toList.drop 72 = dktX8_all_3 := dk_seg dksX8_all_2 24 rfl rfl
theorem dksX8_all_4 : cX8_all.data.toList.drop 96 = dktX8_all_4 := dk_seg dksX8_all_3 24 rfl rfl
theorem dX8_all_0 : decode cX8_all 0 = .ok (.iconst 0, 1) := dk_3 (dk_at dksX8_all_0 0 rfl rfl)
theorem dX8_all_1 : decode cX8_all 1 = .ok (.istore_n 1, 1) := dk_60 (dk_at dksX8_all_0 1 rfl rfl)
theorem dX8_all_2 : decode cX8_all 2 = .ok (.iload_n 1, 1) := dk_27 (dk_at dksX8_all_0 2 rfl rfl)
theorem dX8_all_3 : decode cX8_all 3 = .ok (.aload_n 0, 1) := dk_42 (dk_at dksX8_all_0 3 rfl rfl)
theorem dX8_all_4 : decode cX8_all 4 = .ok (.getfield 18, 3) := dk_180 0 18 (dk_at dksX8_all_0 4 rfl rfl)
theorem dX8_all_7 : decode cX8_all 7 = .ok (.getfield 32, 3) := dk_180 0 32 (dk_at dksX8_all_0 7 rfl rfl)
theorem dX8_all_10 : decode cX8_all 10 = .ok (.if_icmp .ge 66, 3) := dk_162 0 66 (dk_at dksX8_all_0 10 rfl rfl)
theorem dX8_all_13 : decode cX8_all 13 = .ok (.aload_n 0, 1) := dk_42 (dk_at dksX8_all_0 13 rfl rfl)
theorem dX8_all_14 : decode cX8_all 14 = .ok (.getfield 18, 3) := dk_180 0 18 (dk_at dksX8_all_0 14 rfl rfl)
theorem dX8_all_17 : decode cX8_all 17 = .ok (.iload_n 1, 1) := dk_27 (dk_at dksX8_all_0 17 rfl rfl)
theorem dX8_all_18 : decode cX8_all 18 = .ok (.invokevirtual 38, 3) := dk_182 0 38 (dk_at dksX8_all_0 18 rfl rfl)
theorem dX8_all_21 : decode cX8_all 21 = .ok (.invokestatic 42, 3) := dk_184 0 42 (dk_at dksX8_all_0 21 rfl rfl)
theorem dX8_all_24 : decode cX8_all 24 = .ok (.ifCond .eq 9, 3) := dk_153 0 9 (dk_at dksX8_all_1 0 rfl rfl)
theorem dX8_all_27 : decode cX8_all 27 = .ok (.iinc 1 1, 3) := dk_132 1 1 (dk_at dksX8_all_1 3 rfl rfl)
theorem dX8_all_30 : decode cX8_all 30 = .ok (.goto (-28), 3) := dk_167 255 228 (dk_at dksX8_all_1 6 rfl rfl)
theorem dX8_all_33 : decode cX8_all 33 = .ok (.aload_n 0, 1) := dk_42 (dk_at dksX8_all_1 9 rfl rfl)
theorem dX8_all_34 : decode cX8_all 34 = .ok (.iload_n 1, 1) := dk_27 (dk_at dksX8_all_1 10 rfl rfl)
theorem dX8_all_35 : decode cX8_all 35 = .ok (.invokevirtual 46, 3) := dk_182 0 46 (dk_at dksX8_all_1 11 rfl rfl)
theorem dX8_all_38 : decode cX8_all 38 = .ok (.astore_n 2, 1) := dk_77 (dk_at dksX8_all_1 14 rfl rfl)
theorem dX8_all_39 : decode cX8_all 39 = .ok (.aload_n 0, 1) := dk_42 (dk_at dksX8_all_1 15 rfl rfl)
theorem dX8_all_40 : decode cX8_all 40 = .ok (.getfield 12, 3) := dk_180 0 12 (dk_at dksX8_all_1 16 rfl rfl)
theorem dX8_all_43 : decode cX8_all 43 = .ok (.aload_n 2, 1) := dk_44 (dk_at dksX8_all_1 19 rfl rfl)
theorem dX8_all_44 : decode cX8_all 44 = .ok (.invokevirtual 50, 3) := dk_182 0 50 (dk_at dksX8_all_1 20 rfl rfl)
theorem dX8_all_47 : decode cX8_all 47 = .ok (.pop, 1) := dk_87 (dk_at dksX8_all_1 23 rfl rfl)
theorem dX8_all_48 : decode cX8_all 48 = .ok (.aload_n 2, 1) := dk_44 (dk_at dksX8_all_2 0 rfl rfl)
theorem dX8_all_49 : decode cX8_all 49 = .ok (.getfield 53, 3) := dk_180 0 53 (dk_at dksX8_all_2 1 rfl rfl)
theorem dX8_all_52 : decode cX8_all 52 = .ok (.getstatic 59, 3) := dk_178 0 59 (dk_at dksX8_all_2 4 rfl rfl)
theorem dX8_all_55 : decode cX8_all 55 = .ok (.if_acmp .ne 8, 3) := dk_166 0 8 (dk_at dksX8_all_2 7 rfl rfl)
theorem dX8_all_58 : decode cX8_all 58 = .ok (.aload_n 0, 1) := dk_42 (dk_at dksX8_all_2 10 rfl rfl)
theorem dX8_all_59 : decode cX8_all 59 = .ok (.getfield 12, 3) := dk_180 0 12 (dk_at dksX8_all_2 11 rfl rfl)
theorem dX8_all_62 : decode cX8_all 62 = .ok (.areturn, 1) := dk_176 (dk_at dksX8_all_2 14 rfl rfl)
theorem dX8_all_63 : decode cX8_all 63 = .ok (.iload_n 1, 1) := dk_27 (dk_at dksX8_all_2 15 rfl rfl)
theorem dX8_all_64 : decode cX8_all 64 = .ok (.aload_n 2, 1) := dk_44 (dk_at dksX8_all_2 16 rfl rfl)
theorem dX8_all_65 : decode cX8_all 65 = .ok (.getfield 64, 3) := dk_180 0 64 (dk_at dksX8_all_2 17 rfl rfl)
theorem dX8_all_68 : decode cX8_all 68 = .ok (.invokevirtual 68, 3) := dk_182 0 68 (dk_at dksX8_all_2 20 rfl rfl)
theorem dX8_all_71 : decode cX8_all 71 = .ok (.iadd, 1) := dk_96 (dk_at dksX8_all_2 23 rfl rfl)
theorem dX8_all_72 : decode cX8_all 72 = .ok (.istore_n 1, 1) := dk_60 (dk_at dksX8_all_3 0 rfl rfl)
theorem dX8_all_73 : decode cX8_all 73 = .ok (.goto (-71), 3) := dk_167 255 185 (dk_at dksX8_all_3 1 rfl rfl)
theorem dX8_all_76 : decode cX8_all 76 = .ok (.aload_n 0, 1) := dk_42 (dk_at dksX8_all_3 4 rfl rfl)
theorem dX8_all_77 : decode cX8_all 77 = .ok (.getfield 12, 3) := dk_180 0 12 (dk_at dksX8_all_3 5 rfl rfl)
theorem dX8_all_80 : decode cX8_all 80 = .ok (.new 54, 3) := dk_187 0 54 (dk_at dksX8_all_3 8 rfl rfl)
theorem dX8_all_83 : decode cX8_all 83 = .ok (.dup, 1) := dk_89 (dk_at dksX8_all_3 11 rfl rfl)
theorem dX8_all_84 : decode cX8_all 84 = .ok (.getstatic 72, 3) := dk_178 0 72 (dk_at dksX8_all_3 12 rfl rfl)
theorem dX8_all_87 : decode cX8_all 87 = .ok (.ldc 75, 2) := dk_18 75 (dk_at dksX8_all_3 15 rfl rfl)
theorem dX8_all_89 : decode cX8_all 89 = .ok (.aload_n 0, 1) := dk_42 (dk_at dksX8_all_3 17 rfl rfl)
theorem dX8_all_90 : decode cX8_all 90 = .ok (.getfield 18, 3) := dk_180 0 18 (dk_at dksX8_all_3 18 rfl rfl)
theorem dX8_all_93 : decode cX8_all 93 = .ok (.getfield 32, 3) := dk_180 0 32 (dk_at dksX8_all_3 21 rfl rfl)
theorem dX8_all_96 : decode cX8_all 96 = .ok (.invokespecial 77, 3) := dk_183 0 77 (dk_at dksX8_all_4 0 rfl rfl)
theorem dX8_all_99 : decode cX8_all 99 = .ok (.invokevirtual 50, 3) := dk_182 0 50 (dk_at dksX8_all_4 3 rfl rfl)
theorem dX8_all_102 : decode cX8_all 102 = .ok (.pop, 1) := dk_87 (dk_at dksX8_all_4 6 rfl rfl)
theorem dX8_all_103 : decode cX8_all 103 = .ok (.aload_n 0, 1) := dk_42 (dk_at dksX8_all_4 7 rfl rfl)
theorem dX8_all_104 : decode cX8_all 104 = .ok (.getfield 12, 3) := dk_180 0 12 (dk_at dksX8_all_4 8 rfl rfl)
theorem dX8_all_107 : decode cX8_all 107 = .ok (.areturn, 1) := dk_176 (dk_at dksX8_all_4 11 rfl rfl)
theorem fdX8_32_1 : sd_Fd "SofaDig$Scanner" 32 1 1 := ⟨(RX2, TX2, 2), "SofaDig$Tape", rfl, by decide, rfl, in_X2, Or.inl rfl, Or.inr ⟨_, q198⟩⟩
theorem fdX8_53_8 : sd_Fd "SofaDig$Scanner" 53 8 0 := ⟨(RX9, TX9, 3), "SofaDig$Token", rfl, by decide, rfl, in_X9, Or.inl rfl, Or.inr ⟨_, q504⟩⟩
theorem fdX8_64_8 : sd_Fd "SofaDig$Scanner" 64 8 1 := ⟨(RX9, TX9, 3), "SofaDig$Token", rfl, by decide, rfl, in_X9, Or.inl rfl, Or.inr ⟨_, q506⟩⟩
abbrev mX8_all : sd_Y := (yX8_all, cX8_all, 3, some (.object "java/util/List"), none)
def fX8_all_b2 (G : sd_G) (k2 : Nat × Int32 → sd_M Nat) (w0 : Nat) (w1 : Int32) : sd_M Nat :=
  sd_bnd (sd_getR G 7 0 w0) fun v1 =>
  sd_bnd (sd_getI G 1 1 v1) fun v2 =>
  if v2 ≤ w1 then (
    sd_bnd (sd_getR G 7 1 w0) fun v3 =>
    sd_bnd (sd_new 8 3 [.null, .null, .int 0]) fun o4 =>
    sd_bnd (sd_getR G 7 0 w0) fun v5 =>
    sd_bnd (sd_getI G 1 1 v5) fun v6 =>
    sd_bnd (fX9_init G o4 (sd_ad G 7) (sd_ad G 100) v6) fun _ =>
    sd_bnd (sd_isC G 41 v3) fun _ =>
    sd_bnd (fJ2_add G v3 o4) fun r7 =>
    sd_bnd (sd_getR G 7 1 w0) fun v8 =>
    sd_ret v8)
  else (
    sd_bnd (sd_getR G 7 0 w0) fun v9 =>
    sd_bnd (sd_isC G 1 v9) fun _ =>
    sd_bnd (fX2_at G v9 w1) fun r10 =>
    sd_bnd (fX8_isBlank G r10) fun r11 =>
    if r11 = 0 then (
      sd_bnd (sd_isC G 7 w0) fun _ =>
      sd_bnd (fX8_next G w0 w1) fun r12 =>
      sd_bnd (sd_getR G 7 1 w0) fun v13 =>
      sd_bnd (sd_isC G 41 v13) fun _ =>
      sd_bnd (fJ2_add G v13 r12) fun r14 =>
      sd_bnd (sd_getR G 8 0 r12) fun v15 =>
      if v15 = (sd_ad G 1) then (
        sd_bnd (sd_getR G 7 1 w0) fun v19 =>
        sd_ret v19)
      else (
        sd_bnd (sd_getR G 8 1 r12) fun v16 =>
        sd_bnd (sd_isC G 45 v16) fun _ =>
        sd_bnd (fJ14_length G v16) fun r17 =>
        sd_bnd (sd_ret (w1 + r17)) fun x18 =>
        k2 (w0, x18)))
    else (
      sd_bnd (sd_ret (w1 + 1)) fun x20 =>
      k2 (w0, x20)))
set_option maxHeartbeats 4000000 in
theorem sX8_all_b2 (l : Launch) (G : sd_G) (a0 : Nat) (ρ : Nat) (h2 : sd_H) (cT : Nat × Nat) (k2 : Nat × Int32 → sd_M Nat) (Hk2 : ∀ (q : Nat × Int32) (h : sd_H) (c : Nat × Nat), k2 q h = some (ρ, c, h2) → sd_J mX8_all ((l, G), (8, 181), [.ref a0], (sd_oR ρ, h2), cT) 2 [(0, .ref q.1), (1, .int q.2)] [] h c) (w0 : Nat) (w1 : Int32) (h : sd_H) (c : Nat × Nat) (hf : fX8_all_b2 G k2 w0 w1 h = some (ρ, c, h2)) : sd_J mX8_all ((l, G), (8, 181), [.ref a0], (sd_oR ρ, h2), cT) 2 [(0, .ref w0), (1, .int w1)] [] h c := by
  unfold fX8_all_b2 at hf
  refine sj_iload_n 1 dX8_all_2 rfl ?_
  refine sj_aload_n 0 dX8_all_3 rfl ?_
  refine sj_getR fdX8_18_7 hf dX8_all_4 (fun v1 hf => ?_)
  refine sj_getI fdX8_32_1 hf dX8_all_7 (fun v2 hf => ?_)
  refine sj_icge 76 hf dX8_all_10 (by decide) (fun g10 hf => ?_) (fun g10 hf => ?_)
  · refine sj_aload_n 0 dX8_all_76 rfl ?_
    refine sj_getR fdX8_12_7 hf dX8_all_77 (fun v3 hf => ?_)
    refine sj_new fnX8_54 hf dX8_all_80 (fun o4 h c hf => ?_)
    refine sj_dup dX8_all_83 rfl ?_
    refine sj_gets (v := .ref (sd_ad G 7)) 14 rfl rfl ⟨Or.inl q919, rfl⟩ dX8_all_84 ?_
    refine sj_ldcS 0 rfl dX8_all_87 ?_
    refine sj_aload_n 0 dX8_all_89 rfl ?_
    refine sj_getR fdX8_18_7 hf dX8_all_90 (fun v5 hf => ?_)
    refine sj_getI fdX8_32_1 hf dX8_all_93 (fun v6 hf => ?_)
    refine sj_cV (rest := [.ref o4, .ref v3]) (fun _ _ _ e => sj_runI (n := 3) (a := o4) (As := [.ref (sd_ad G 7), .ref (sd_ad G 100), .int v6]) (rest := [.ref o4, .ref v3]) (sX9_init l G o4 (sd_ad G 7) (sd_ad G 100) v6 h _ _ _ e) rfl rfl q498 q499 q136 q500 rfl (by decide +kernel) rfl rfl (fun _ z => by cases z) ⟨Nat.le_of_ble_eq_true rfl, Nat.le_of_ble_eq_true rfl⟩ rfl (Nat.le_of_ble_eq_true rfl) dX8_all_96) hf (fun h c hf => ?_)
    obtain ⟨fs99, he99, hf⟩ := sd_isC_some hf
    refine sj_cI (rest := []) (fun _ _ _ e => sj_runV (n := 1) (As := [.ref o4]) (rest := []) (sJ2_add l G v3 o4 h _ _ _ e) he99 rfl rfl rfl rfl q918 q338 q339 q121 q340 (by decide +kernel) rfl rfl ⟨Nat.le_of_ble_eq_true rfl, Nat.le_of_ble_eq_true rfl⟩ rfl (Nat.le_of_ble_eq_true rfl) dX8_all_99) hf (fun r7 h c hf => ?_)
    refine sj_pop dX8_all_102 rfl ?_
    refine sj_aload_n 0 dX8_all_103 rfl ?_
    refine sj_getR fdX8_12_7 hf dX8_all_104 (fun v8 hf => ?_)
    exact sj_aret (o := sd_oR) hf rfl rfl rfl (Or.inl ⟨_, rfl⟩) dX8_all_107
  · refine sj_aload_n 0 dX8_all_13 rfl ?_
    refine sj_getR fdX8_18_7 hf dX8_all_14 (fun v9 hf => ?_)
    refine sj_iload_n 1 dX8_all_17 rfl ?_
    obtain ⟨fs18, he18, hf⟩ := sd_isC_some hf
    refine sj_cI (rest := []) (fun _ _ _ e => sj_runV (n := 1) (As := [.int w1]) (rest := []) (sX2_at l G v9 w1 h _ _ _ e) he18 rfl rfl rfl rfl q478 q479 q480 q117 q481 (by decide +kernel) rfl rfl ⟨Nat.le_of_ble_eq_true rfl, Nat.le_of_ble_eq_true rfl⟩ rfl (Nat.le_of_ble_eq_true rfl) dX8_all_18) hf (fun r10 h c hf => ?_)
    refine sj_cI (rest := []) (fun _ _ _ e => sj_runS (n := 1) (rest := []) (sX8_isBlank l G r10 h _ _ _ e) rfl rfl q482 q483 q135 q484 (by decide +kernel) rfl ⟨Nat.le_of_ble_eq_true rfl, Nat.le_of_ble_eq_true rfl⟩ rfl (Nat.le_of_ble_eq_true rfl) dX8_all_21) hf (fun r11 h c hf => ?_)
    refine sj_ifeq 33 hf dX8_all_24 (by decide) (fun g24 hf => ?_) (fun g24 hf => ?_)
    · refine sj_aload_n 0 dX8_all_33 rfl ?_
      refine sj_iload_n 1 dX8_all_34 rfl ?_
      obtain ⟨fs35, he35, hf⟩ := sd_isC_some hf
      refine sj_cR (rest := []) (fun _ _ _ e => sj_runV (n := 1) (As := [.int w1]) (rest := []) (sX8_next l G w0 w1 h _ _ _ e) he35 rfl rfl rfl rfl q485 q487 qs3 q135 q488 (by decide +kernel) rfl rfl ⟨Nat.le_of_ble_eq_true rfl, Nat.le_of_ble_eq_true rfl⟩ rfl (Nat.le_of_ble_eq_true rfl) dX8_all_35) hf (fun r12 h c hf => ?_)
      refine sj_astore_n [(2, .ref r12), (0, .ref w0), (1, .int w1)] dX8_all_38 (by decide) rfl ?_
      refine sj_aload_n 1 dX8_all_39 rfl ?_
      refine sj_getR fdX8_12_7 hf dX8_all_40 (fun v13 hf => ?_)
      refine sj_aload_n 0 dX8_all_43 rfl ?_
      obtain ⟨fs44, he44, hf⟩ := sd_isC_some hf
      refine sj_cI (rest := []) (fun _ _ _ e => sj_runV (n := 1) (As := [.ref r12]) (rest := []) (sJ2_add l G v13 r12 h _ _ _ e) he44 rfl rfl rfl rfl q918 q338 q339 q121 q340 (by decide +kernel) rfl rfl ⟨Nat.le_of_ble_eq_true rfl, Nat.le_of_ble_eq_true rfl⟩ rfl (Nat.le_of_ble_eq_true rfl) dX8_all_44) hf (fun r14 h c hf => ?_)
      refine sj_pop dX8_all_47 rfl ?_
      refine sj_aload_n 0 dX8_all_48 rfl ?_
      refine sj_getR fdX8_53_8 hf dX8_all_49 (fun v15 hf => ?_)
      refine sj_gets (v := .ref (sd_ad G 1)) 1 rfl rfl ⟨Or.inl q495, rfl⟩ dX8_all_52 ?_
      refine sj_acneR 63 hf dX8_all_55 (by decide) (fun g55 hf => ?_) (fun g55 hf => ?_)
      · refine sj_iload_n 2 dX8_all_63 rfl ?_
        refine sj_aload_n 0 dX8_all_64 rfl ?_
        refine sj_getR fdX8_64_8 hf dX8_all_65 (fun v16 hf => ?_)
        obtain ⟨fs68, he68, hf⟩ := sd_isC_some hf
        refine sj_cI (rest := [.int w1]) (fun _ _ _ e => sj_runV (n := 0) (As := []) (rest := [.int w1]) (sJ14_length l G v16 h _ _ _ e) he68 rfl rfl rfl rfl q845 q770 q771 q141 q772 (by decide +kernel) rfl rfl ⟨Nat.le_of_ble_eq_true rfl, Nat.le_of_ble_eq_true rfl⟩ rfl (Nat.le_of_ble_eq_true rfl) dX8_all_68) hf (fun r17 h c hf => ?_)
        refine sj_iadd dX8_all_71 ?_
        refine sj_nameI hf (fun x18 hf => ?_)
        refine sj_istore_n [(1, .int x18), (2, .ref r12), (0, .ref w0)] dX8_all_72 (by decide) rfl ?_
        refine sj_goto 2 dX8_all_73 (by decide) ?_
        exact sj_loc [2, 0] rfl (Hk2 (w0, x18) _ _ hf)
      · refine sj_aload_n 1 dX8_all_58 rfl ?_
        refine sj_getR fdX8_12_7 hf dX8_all_59 (fun v19 hf => ?_)
        exact sj_aret (o := sd_oR) hf rfl rfl rfl (Or.inl ⟨_, rfl⟩) dX8_all_62
    · refine sj_iincN 1 (fun x20 => [(1, .int x20), (0, .ref w0)]) 1 hf dX8_all_27 rfl (by decide) (by decide) (fun _ => rfl) (fun x20 hf => ?_)
      refine sj_goto 2 dX8_all_30 (by decide) ?_
      exact sj_loc [1, 0] rfl (Hk2 (w0, x20) _ _ hf)
theorem sX8_all_b2_loop (l : Launch) (G : sd_G) (a0 : Nat) (ρ : Nat) (h2 : sd_H) (cT : Nat × Nat) (n : Nat) : ∀ (q : Nat × Int32) (h : sd_H) (c : Nat × Nat), sd_loop (fun k s => fX8_all_b2 G k s.1 s.2) n q h = some (ρ, c, h2) → sd_J mX8_all ((l, G), (8, 181), [.ref a0], (sd_oR ρ, h2), cT) 2 [(0, .ref q.1), (1, .int q.2)] [] h c := by
  induction n with
  | zero => intro q h c hf; cases hf
  | succ n ih => intro q h c hf; exact sX8_all_b2 l G a0 ρ h2 cT _ ih _ _ _ _ hf
def fX8_all (G : sd_G) (a0 : Nat) : sd_M Nat :=
  sd_loop (fun k s => fX8_all_b2 G k s.1 s.2) sd_FU (a0, 0)
set_option maxHeartbeats 4000000 in
theorem sX8_all (l : Launch) (G : sd_G) (a0 : Nat) (h : sd_H) (ρ : Nat) (cT : Nat × Nat) (h2 : sd_H) (hf : fX8_all G a0 h = some (ρ, cT, h2)) : sd_Met mX8_all ((l, G), (8, 181), [.ref a0], (sd_oR ρ, h2), cT) h := by
  refine sd_entry (plainFor_of_name rfl) rfl (Nat.le_of_ble_eq_true rfl) ?_
  show sd_J mX8_all ((l, G), (8, 181), [.ref a0], (sd_oR ρ, h2), cT) 0 [(0, .ref a0)] [] h cT
  unfold fX8_all at hf
  refine sj_iconst (v := 0) dX8_all_0 (by decide) ?_
  refine sj_istore_n [(1, .int 0), (0, .ref a0)] dX8_all_1 (by decide) rfl ?_
  exact sj_loc [1, 0] rfl (sX8_all_b2_loop l G a0 ρ h2 cT sd_FU (a0, 0) _ _ hf)
/-! SofaDig$Token.is(Ljava/lang/String;)Z -/
abbrev cX9_is : ByteArray := prog_36_method_2_code
def yX9_is : MethodName := ⟨RX9, "is", "(Ljava/lang/String;)Z"⟩
def dkwX9_is_1 : List UInt8 := [43, 182, 0, 29, 153, 0, 7, 4, 167, 0, 4, 3, 172]
abbrev dktX9_is_1 : List UInt8 := dkwX9_is_1 ++ []
def dkwX9_is_0 : List UInt8 := [42, 180, 0, 7, 178, 0, 21, 165, 0, 13, 42, 180, 0, 7, 178, 0, 26, 166, 0, 18, 42, 180, 0, 13]
abbrev dktX9_is_0 : List UInt8 := dkwX9_is_0 ++ dktX9_is_1
theorem dksX9_is_0 : cX9_is.data.toList.drop 0 = dktX9_is_0 := by decide +kernel
theorem dksX9_is_1 : cX9_is.data.toList.drop 24 = dktX9_is_1 := dk_seg dksX9_is_0 24 rfl rfl
theorem dX9_is_0 : decode cX9_is 0 = .ok (.aload_n 0, 1) := dk_42 (dk_at dksX9_is_0 0 rfl rfl)
theorem dX9_is_1 : decode cX9_is 1 = .ok (.getfield 7, 3) := dk_180 0 7 (dk_at dksX9_is_0 1 rfl rfl)
theorem dX9_is_4 : decode cX9_is 4 = .ok (.getstatic 21, 3) := dk_178 0 21 (dk_at dksX9_is_0 4 rfl rfl)
theorem dX9_is_7 : decode cX9_is 7 = .ok (.if_acmp .eq 13, 3) := dk_165 0 13 (dk_at dksX9_is_0 7 rfl rfl)
theorem dX9_is_10 : decode cX9_is 10 = .ok (.aload_n 0, 1) := dk_42 (dk_at dksX9_is_0 10 rfl rfl)
theorem dX9_is_11 : decode cX9_is 11 = .ok (.getfield 7, 3) := dk_180 0 7 (dk_at dksX9_is_0 11 rfl rfl)
theorem dX9_is_14 : decode cX9_is 14 = .ok (.getstatic 26, 3) := dk_178 0 26 (dk_at dksX9_is_0 14 rfl rfl)
theorem dX9_is_17 : decode cX9_is 17 = .ok (.if_acmp .ne 18, 3) := dk_166 0 18 (dk_at dksX9_is_0 17 rfl rfl)
theorem dX9_is_20 : decode cX9_is 20 = .ok (.aload_n 0, 1) := dk_42 (dk_at dksX9_is_0 20 rfl rfl)
theorem dX9_is_21 : decode cX9_is 21 = .ok (.getfield 13, 3) := dk_180 0 13 (dk_at dksX9_is_0 21 rfl rfl)
theorem dX9_is_24 : decode cX9_is 24 = .ok (.aload_n 1, 1) := dk_43 (dk_at dksX9_is_1 0 rfl rfl)
theorem dX9_is_25 : decode cX9_is 25 = .ok (.invokevirtual 29, 3) := dk_182 0 29 (dk_at dksX9_is_1 1 rfl rfl)
theorem dX9_is_28 : decode cX9_is 28 = .ok (.ifCond .eq 7, 3) := dk_153 0 7 (dk_at dksX9_is_1 4 rfl rfl)
theorem dX9_is_31 : decode cX9_is 31 = .ok (.iconst 1, 1) := dk_4 (dk_at dksX9_is_1 7 rfl rfl)
theorem dX9_is_32 : decode cX9_is 32 = .ok (.goto 4, 3) := dk_167 0 4 (dk_at dksX9_is_1 8 rfl rfl)
theorem dX9_is_35 : decode cX9_is 35 = .ok (.iconst 0, 1) := dk_3 (dk_at dksX9_is_1 11 rfl rfl)
theorem dX9_is_36 : decode cX9_is 36 = .ok (.ireturn, 1) := dk_172 (dk_at dksX9_is_1 12 rfl rfl)
theorem fdX9_7_8 : sd_Fd "SofaDig$Token" 7 8 0 := ⟨(RX9, TX9, 3), "SofaDig$Token", rfl, by decide, rfl, in_X9, Or.inl rfl, Or.inl q502⟩
theorem fdX9_13_8 : sd_Fd "SofaDig$Token" 13 8 1 := ⟨(RX9, TX9, 3), "SofaDig$Token", rfl, by decide, rfl, in_X9, Or.inl rfl, Or.inl q505⟩
abbrev mX9_is : sd_Y := (yX9_is, cX9_is, 2, some (.boolean), none)
def fX9_is_b20 (G : sd_G) (w0 : Nat) (w1 : Nat) : sd_M Int32 :=
  sd_bnd (sd_getR G 8 1 w0) fun v2 =>
  sd_bnd (sd_isC G 45 v2) fun _ =>
  sd_bnd (fJ14_equals G v2 w1) fun r3 =>
  if r3 = 0 then (
    sd_ret 0)
  else (
    sd_ret 1)
set_option maxHeartbeats 4000000 in
theorem sX9_is_b20 (l : Launch) (G : sd_G) (a0 : Nat) (a1 : Nat) (ρ : Int32) (h2 : sd_H) (cT : Nat × Nat) (w0 : Nat) (w1 : Nat) (h : sd_H) (c : Nat × Nat) (hf : fX9_is_b20 G w0 w1 h = some (ρ, c, h2)) : sd_J mX9_is ((l, G), (2, 44), [.ref a0, .ref a1], (sd_oI ρ, h2), cT) 20 [(0, .ref w0), (1, .ref w1)] [] h c := by
  unfold fX9_is_b20 at hf
  refine sj_aload_n 0 dX9_is_20 rfl ?_
  refine sj_getR fdX9_13_8 hf dX9_is_21 (fun v2 hf => ?_)
  refine sj_aload_n 1 dX9_is_24 rfl ?_
  obtain ⟨fs25, he25, hf⟩ := sd_isC_some hf
  refine sj_cI (rest := []) (fun _ _ _ e => sj_runV (n := 1) (As := [.ref w1]) (rest := []) (sJ14_equals l G v2 w1 h _ _ _ e) he25 rfl rfl rfl rfl q1020 q852 q853 q141 q854 (by decide +kernel) rfl rfl ⟨Nat.le_of_ble_eq_true rfl, Nat.le_of_ble_eq_true rfl⟩ rfl (Nat.le_of_ble_eq_true rfl) dX9_is_25) hf (fun r3 h c hf => ?_)
  refine sj_ifeq 35 hf dX9_is_28 (by decide) (fun g28 hf => ?_) (fun g28 hf => ?_)
  · refine sj_iconst (v := 0) dX9_is_35 (by decide) ?_
    exact sj_zretC (o := sd_oI) (ty := .boolean) rfl hf rfl rfl rfl dX9_is_36
  · refine sj_iconst (v := 1) dX9_is_31 (by decide) ?_
    refine sj_goto 36 dX9_is_32 (by decide) ?_
    exact sj_zretC (o := sd_oI) (ty := .boolean) rfl hf rfl rfl rfl dX9_is_36
def fX9_is (G : sd_G) (a0 : Nat) (a1 : Nat) : sd_M Int32 :=
  sd_bnd (sd_getR G 8 0 a0) fun v1 =>
  if v1 = (sd_ad G 3) then (
    fX9_is_b20 G a0 a1)
  else (
    sd_bnd (sd_getR G 8 0 a0) fun v4 =>
    if v4 = (sd_ad G 6) then (
      fX9_is_b20 G a0 a1)
    else (
      sd_ret 0))
set_option maxHeartbeats 4000000 in
theorem sX9_is (l : Launch) (G : sd_G) (a0 : Nat) (a1 : Nat) (h : sd_H) (ρ : Int32) (cT : Nat × Nat) (h2 : sd_H) (hf : fX9_is G a0 a1 h = some (ρ, cT, h2)) : sd_Met mX9_is ((l, G), (2, 44), [.ref a0, .ref a1], (sd_oI ρ, h2), cT) h := by
  refine sd_entry (plainFor_of_name rfl) rfl (Nat.le_of_ble_eq_true rfl) ?_
  show sd_J mX9_is ((l, G), (2, 44), [.ref a0, .ref a1], (sd_oI ρ, h2), cT) 0 [(0, .ref a0), (1, .ref a1)] [] h cT
  unfold fX9_is at hf
  refine sj_aload_n 0 dX9_is_0 rfl ?_
  refine sj_getR fdX9_7_8 hf dX9_is_1 (fun v1 hf => ?_)
  refine sj_gets (v := .ref (sd_ad G 3)) 10 rfl rfl ⟨Or.inl q1018, rfl⟩ dX9_is_4 ?_
  refine sj_aceqR 20 hf dX9_is_7 (by decide) (fun g7 hf => ?_) (fun g7 hf => ?_)
  · exact sj_loc [0, 1] rfl (sX9_is_b20 l G a0 a1 ρ h2 cT a0 a1 _ _ hf)
  · refine sj_aload_n 0 dX9_is_10 rfl ?_
    refine sj_getR fdX9_7_8 hf dX9_is_11 (fun v4 hf => ?_)
    refine sj_gets (v := .ref (sd_ad G 6)) 13 rfl rfl ⟨Or.inl q1019, rfl⟩ dX9_is_14 ?_
    refine sj_acneR 35 hf dX9_is_17 (by decide) (fun g17 hf => ?_) (fun g17 hf => ?_)
    · refine sj_iconst (v := 0) dX9_is_35 (by decide) ?_
      exact sj_zretC (o := sd_oI) (ty := .boolean) rfl hf rfl rfl rfl dX9_is_36
    · exact sj_loc [0, 1] rfl (sX9_is_b20 l G a0 a1 ρ h2 cT a0 a1 _ _ hf)
/-! SofaDig$Fault.<init>(II)V -/
abbrev cX10_init : ByteArray := prog_11_method_1_code
def yX10_init : MethodName := ⟨RX10, "<init>", "(II)V"⟩
def dkwX10_init_0 : List UInt8 := [42, 183, 0, 1, 42, 27, 181, 0, 7, 42, 28, 181, 0, 13, 177]
abbrev dktX10_init_0 : List UInt8 := dkwX10_init_0 ++ []
theorem dksX10_init_0 : cX10_init.data.toList.drop 0 = dktX10_init_0 := by decide +kernel
theorem dX10_init_0 : decode cX10_init 0 = .ok (.aload_n 0, 1) := dk_42 (dk_at dksX10_init_0 0 rfl rfl)
theorem dX10_init_1 : decode cX10_init 1 = .ok (.invokespecial 1, 3) := dk_183 0 1 (dk_at dksX10_init_0 1 rfl rfl)
theorem dX10_init_4 : decode cX10_init 4 = .ok (.aload_n 0, 1) := dk_42 (dk_at dksX10_init_0 4 rfl rfl)
theorem dX10_init_5 : decode cX10_init 5 = .ok (.iload_n 1, 1) := dk_27 (dk_at dksX10_init_0 5 rfl rfl)
theorem dX10_init_6 : decode cX10_init 6 = .ok (.putfield 7, 3) := dk_181 0 7 (dk_at dksX10_init_0 6 rfl rfl)
theorem dX10_init_9 : decode cX10_init 9 = .ok (.aload_n 0, 1) := dk_42 (dk_at dksX10_init_0 9 rfl rfl)
theorem dX10_init_10 : decode cX10_init 10 = .ok (.iload_n 2, 1) := dk_28 (dk_at dksX10_init_0 10 rfl rfl)
theorem dX10_init_11 : decode cX10_init 11 = .ok (.putfield 13, 3) := dk_181 0 13 (dk_at dksX10_init_0 11 rfl rfl)
theorem dX10_init_14 : decode cX10_init 14 = .ok (.return_, 1) := dk_177 (dk_at dksX10_init_0 14 rfl rfl)
theorem twF : (sd_atF "SofaDig$Fault" 1 RX10 8).filter vy_no = ([129, 697, 706, 712, 715, 717, 698, 699, 188, 189, 700, 705, 713, 808, 687, 809, 689, 810, 691, 701, 703, 693, 1047, 1048, 1049, 698, 682, 1046, 1035, 1036, 1037, 708, 1038, 1039, 1040, 1041, 696, 695, 1042] : List Nat).filterMap (fun i => lw_tbl[i]?) := by decide +kernel
theorem twFg : ((sd_atF "SofaDig$Fault" 1 RX10 8).filter vy_no).all sd_gk = true := by decide +kernel
theorem fpX10_init_7 : sd_Fp yX10_init 7 9 0 .int := ⟨(RX10, TZ1, 2), "SofaDig$Fault", tyZ1, rfl, by decide, rfl, in_Z1, Or.inl rfl, tyZ1_ok, nmZ1, rfl, Or.inr ⟨rfl, rfl, rfl, q1050⟩⟩
theorem fpX10_init_13 : sd_Fp yX10_init 13 9 1 .int := ⟨(RX10, TZ1, 2), "SofaDig$Fault", tyZ1, rfl, by decide, rfl, in_Z1, Or.inl rfl, tyZ1_ok, nmZ1, rfl, Or.inr ⟨rfl, rfl, rfl, q1052⟩⟩
abbrev mX10_init : sd_Y := (yX10_init, cX10_init, 3, none, none)
def fX10_init (G : sd_G) (a0 : Nat) (a1 : Int32) (a2 : Int32) : sd_M Unit :=
  sd_bnd (sd_exi a0) fun _ =>
  sd_bnd (sd_put 9 0 .int a0 (.int a1)) fun _ =>
  sd_bnd (sd_put 9 1 .int a0 (.int a2)) fun _ =>
  sd_ret ()
set_option maxHeartbeats 4000000 in
theorem sX10_init (l : Launch) (hl : l.stackTraces = false) (G : sd_G) (a0 : Nat) (a1 : Int32) (a2 : Int32) (h : sd_H) (ρ : Unit) (cT : Nat × Nat) (h2 : sd_H) (hf : fX10_init G a0 a1 a2 h = some (ρ, cT, h2)) : sd_Met mX10_init ((l, G), (4, 54), [.ref a0, .int a1, .int a2], (sd_oV ρ, h2), cT) h := by
  refine sd_entry (plainFor_of_name rfl) rfl (Nat.le_of_ble_eq_true rfl) ?_
  show sd_J mX10_init ((l, G), (4, 54), [.ref a0, .int a1, .int a2], (sd_oV ρ, h2), cT) 0 [(0, .ref a0), (1, .int a1), (2, .int a2)] [] h cT
  unfold fX10_init at hf
  refine sj_aload_n 0 dX10_init_0 rfl ?_
  refine sj_excInit [129, 697, 706, 712, 715, 717, 698, 699, 188, 189, 700, 705, 713, 808, 687, 809, 689, 810, 691, 701, 703, 693, 1047, 1048, 1049, 698, 682, 1046, 1035, 1036, 1037, 708, 1038, 1039, 1040, 1041, 696, 695, 1042] hl twF twFg (show 4 ≤ _ from Nat.le_of_ble_eq_true rfl) (Nat.le_of_ble_eq_true rfl) hf dX10_init_1 (fun h hf => ?_)
  refine sj_aload_n 0 dX10_init_4 rfl ?_
  refine sj_iload_n 1 dX10_init_5 rfl ?_
  refine sj_put fpX10_init_7 hf dX10_init_6 (fun h hf => ?_)
  refine sj_aload_n 0 dX10_init_9 rfl ?_
  refine sj_iload_n 2 dX10_init_10 rfl ?_
  refine sj_put fpX10_init_13 hf dX10_init_11 (fun h hf => ?_)
  exact sj_vret (o := sd_oV) hf rfl rfl rfl dX10_init_14
/-! SofaDig$Token.number()I -/
abbrev cX9_number : ByteArray := prog_36_method_3_code
def yX9_number : MethodName := ⟨RX9, "number", "()I"⟩
def dkwX9_number_1 : List UInt8 := [182, 0, 39, 96, 16, 48, 100, 60, 132, 2, 1, 167, 255, 225, 27, 172]
abbrev dktX9_number_1 : List UInt8 := dkwX9_number_1 ++ []
def dkwX9_number_0 : List UInt8 := [3, 60, 3, 61, 28, 42, 180, 0, 13, 182, 0, 35, 162, 0, 26, 16, 10, 27, 104, 42, 180, 0, 13, 28]
abbrev dktX9_number_0 : List UInt8 := dkwX9_number_0 ++ dktX9_number_1
theorem dksX9_number_0 : cX9_number.data.toList.drop 0 = dktX9_number_0 := by decide +kernel
theorem dksX9_number_1 : cX9_number.data.toList.drop 24 = dktX9_number_1 := dk_seg dksX9_number_0 24 rfl rfl
theorem dX9_number_0 : decode cX9_number 0 = .ok (.iconst 0, 1) := dk_3 (dk_at dksX9_number_0 0 rfl rfl)
theorem dX9_number_1 : decode cX9_number 1 = .ok (.istore_n 1, 1) := dk_60 (dk_at dksX9_number_0 1 rfl rfl)
theorem dX9_number_2 : decode cX9_number 2 = .ok (.iconst 0, 1) := dk_3 (dk_at dksX9_number_0 2 rfl rfl)
theorem dX9_number_3 : decode cX9_number 3 = .ok (.istore_n 2, 1) := dk_61 (dk_at dksX9_number_0 3 rfl rfl)
theorem dX9_number_4 : decode cX9_number 4 = .ok (.iload_n 2, 1) := dk_28 (dk_at dksX9_number_0 4 rfl rfl)
theorem dX9_number_5 : decode cX9_number 5 = .ok (.aload_n 0, 1) := dk_42 (dk_at dksX9_number_0 5 rfl rfl)
theorem dX9_number_6 : decode cX9_number 6 = .ok (.getfield 13, 3) := dk_180 0 13 (dk_at dksX9_number_0 6 rfl rfl)
theorem dX9_number_9 : decode cX9_number 9 = .ok (.invokevirtual 35, 3) := dk_182 0 35 (dk_at dksX9_number_0 9 rfl rfl)
theorem dX9_number_12 : decode cX9_number 12 = .ok (.if_icmp .ge 26, 3) := dk_162 0 26 (dk_at dksX9_number_0 12 rfl rfl)
theorem dX9_number_15 : decode cX9_number 15 = .ok (.bipush 10, 2) := dk_16 10 (dk_at dksX9_number_0 15 rfl rfl)
theorem dX9_number_17 : decode cX9_number 17 = .ok (.iload_n 1, 1) := dk_27 (dk_at dksX9_number_0 17 rfl rfl)
theorem dX9_number_18 : decode cX9_number 18 = .ok (.imul, 1) := dk_104 (dk_at dksX9_number_0 18 rfl rfl)
theorem dX9_number_19 : decode cX9_number 19 = .ok (.aload_n 0, 1) := dk_42 (dk_at dksX9_number_0 19 rfl rfl)
theorem dX9_number_20 : decode cX9_number 20 = .ok (.getfield 13, 3) := dk_180 0 13 (dk_at dksX9_number_0 20 rfl rfl)
theorem dX9_number_23 : decode cX9_number 23 = .ok (.iload_n 2, 1) := dk_28 (dk_at dksX9_number_0 23 rfl rfl)
theorem dX9_number_24 : decode cX9_number 24 = .ok (.invokevirtual 39, 3) := dk_182 0 39 (dk_at dksX9_number_1 0 rfl rfl)
theorem dX9_number_27 : decode cX9_number 27 = .ok (.iadd, 1) := dk_96 (dk_at dksX9_number_1 3 rfl rfl)
theorem dX9_number_28 : decode cX9_number 28 = .ok (.bipush 48, 2) := dk_16 48 (dk_at dksX9_number_1 4 rfl rfl)
theorem dX9_number_30 : decode cX9_number 30 = .ok (.isub, 1) := dk_100 (dk_at dksX9_number_1 6 rfl rfl)
theorem dX9_number_31 : decode cX9_number 31 = .ok (.istore_n 1, 1) := dk_60 (dk_at dksX9_number_1 7 rfl rfl)
theorem dX9_number_32 : decode cX9_number 32 = .ok (.iinc 2 1, 3) := dk_132 2 1 (dk_at dksX9_number_1 8 rfl rfl)
theorem dX9_number_35 : decode cX9_number 35 = .ok (.goto (-31), 3) := dk_167 255 225 (dk_at dksX9_number_1 11 rfl rfl)
theorem dX9_number_38 : decode cX9_number 38 = .ok (.iload_n 1, 1) := dk_27 (dk_at dksX9_number_1 14 rfl rfl)
theorem dX9_number_39 : decode cX9_number 39 = .ok (.ireturn, 1) := dk_172 (dk_at dksX9_number_1 15 rfl rfl)
abbrev mX9_number : sd_Y := (yX9_number, cX9_number, 3, some (.int), none)
def fX9_number_b4 (G : sd_G) (k4 : Nat × Int32 × Int32 → sd_M Int32) (w0 : Nat) (w1 : Int32) (w2 : Int32) : sd_M Int32 :=
  sd_bnd (sd_getR G 8 1 w0) fun v1 =>
  sd_bnd (sd_isC G 45 v1) fun _ =>
  sd_bnd (fJ14_length G v1) fun r2 =>
  if r2 ≤ w2 then (
    sd_ret w1)
  else (
    sd_bnd (sd_getR G 8 1 w0) fun v3 =>
    sd_bnd (sd_isC G 45 v3) fun _ =>
    sd_bnd (fJ14_charAt G v3 w2) fun r4 =>
    sd_bnd (sd_ret ((((10 : Int32) * w1) + r4) - 48)) fun x5 =>
    sd_bnd (sd_ret (w2 + 1)) fun x6 =>
    k4 (w0, x5, x6))
set_option maxHeartbeats 4000000 in
theorem sX9_number_b4 (l : Launch) (G : sd_G) (a0 : Nat) (ρ : Int32) (h2 : sd_H) (cT : Nat × Nat) (k4 : Nat × Int32 × Int32 → sd_M Int32) (Hk4 : ∀ (q : Nat × Int32 × Int32) (h : sd_H) (c : Nat × Nat), k4 q h = some (ρ, c, h2) → sd_J mX9_number ((l, G), (4, 85), [.ref a0], (sd_oI ρ, h2), cT) 4 [(0, .ref q.1), (1, .int q.2.1), (2, .int q.2.2)] [] h c) (w0 : Nat) (w1 : Int32) (w2 : Int32) (h : sd_H) (c : Nat × Nat) (hf : fX9_number_b4 G k4 w0 w1 w2 h = some (ρ, c, h2)) : sd_J mX9_number ((l, G), (4, 85), [.ref a0], (sd_oI ρ, h2), cT) 4 [(0, .ref w0), (1, .int w1), (2, .int w2)] [] h c := by
  unfold fX9_number_b4 at hf
  refine sj_iload_n 2 dX9_number_4 rfl ?_
  refine sj_aload_n 0 dX9_number_5 rfl ?_
  refine sj_getR fdX9_13_8 hf dX9_number_6 (fun v1 hf => ?_)
  obtain ⟨fs9, he9, hf⟩ := sd_isC_some hf
  refine sj_cI (rest := [.int w2]) (fun _ _ _ e => sj_runV (n := 0) (As := []) (rest := [.int w2]) (sJ14_length l G v1 h _ _ _ e) he9 rfl rfl rfl rfl q1064 q770 q771 q141 q772 (by decide +kernel) rfl rfl ⟨Nat.le_of_ble_eq_true rfl, Nat.le_of_ble_eq_true rfl⟩ rfl (Nat.le_of_ble_eq_true rfl) dX9_number_9) hf (fun r2 h c hf => ?_)
  refine sj_icge 38 hf dX9_number_12 (by decide) (fun g12 hf => ?_) (fun g12 hf => ?_)
  · refine sj_iload_n 1 dX9_number_38 rfl ?_
    exact sj_iret (o := sd_oI) hf rfl rfl rfl dX9_number_39
  · refine sj_bipush (v := 10) dX9_number_15 (by decide) ?_
    refine sj_iload_n 1 dX9_number_17 rfl ?_
    refine sj_imul dX9_number_18 ?_
    refine sj_aload_n 0 dX9_number_19 rfl ?_
    refine sj_getR fdX9_13_8 hf dX9_number_20 (fun v3 hf => ?_)
    refine sj_iload_n 2 dX9_number_23 rfl ?_
    obtain ⟨fs24, he24, hf⟩ := sd_isC_some hf
    refine sj_cI (rest := [.int ((10 : Int32) * w1)]) (fun _ _ _ e => sj_runV (n := 1) (As := [.int w2]) (rest := [.int ((10 : Int32) * w1)]) (sJ14_charAt l G v3 w2 h _ _ _ e) he24 rfl rfl rfl rfl q1065 q1066 q1067 q141 q1068 (by decide +kernel) rfl rfl ⟨Nat.le_of_ble_eq_true rfl, Nat.le_of_ble_eq_true rfl⟩ rfl (Nat.le_of_ble_eq_true rfl) dX9_number_24) hf (fun r4 h c hf => ?_)
    refine sj_iadd dX9_number_27 ?_
    refine sj_bipush (v := 48) dX9_number_28 (by decide) ?_
    refine sj_isub dX9_number_30 ?_
    refine sj_nameI hf (fun x5 hf => ?_)
    refine sj_istore_n [(1, .int x5), (0, .ref w0), (2, .int w2)] dX9_number_31 (by decide) rfl ?_
    refine sj_iincN 2 (fun x6 => [(2, .int x6), (1, .int x5), (0, .ref w0)]) 1 hf dX9_number_32 rfl (by decide) (by decide) (fun _ => rfl) (fun x6 hf => ?_)
    refine sj_goto 4 dX9_number_35 (by decide) ?_
    exact sj_loc [2, 1, 0] rfl (Hk4 (w0, x5, x6) _ _ hf)
theorem sX9_number_b4_loop (l : Launch) (G : sd_G) (a0 : Nat) (ρ : Int32) (h2 : sd_H) (cT : Nat × Nat) (n : Nat) : ∀ (q : Nat × Int32 × Int32) (h : sd_H) (c : Nat × Nat), sd_loop (fun k s => fX9_number_b4 G k s.1 s.2.1 s.2.2) n q h = some (ρ, c, h2) → sd_J mX9_number ((l, G), (4, 85), [.ref a0], (sd_oI ρ, h2), cT) 4 [(0, .ref q.1), (1, .int q.2.1), (2, .int q.2.2)] [] h c := by
  induction n with
  | zero => intro q h c hf; cases hf
  | succ n ih => intro q h c hf; exact sX9_number_b4 l G a0 ρ h2 cT _ ih _ _ _ _ _ hf
def fX9_number (G : sd_G) (a0 : Nat) : sd_M Int32 :=
  sd_loop (fun k s => fX9_number_b4 G k s.1 s.2.1 s.2.2) sd_FU (a0, 0, 0)
set_option maxHeartbeats 4000000 in
theorem sX9_number (l : Launch) (G : sd_G) (a0 : Nat) (h : sd_H) (ρ : Int32) (cT : Nat × Nat) (h2 : sd_H) (hf : fX9_number G a0 h = some (ρ, cT, h2)) : sd_Met mX9_number ((l, G), (4, 85), [.ref a0], (sd_oI ρ, h2), cT) h := by
  refine sd_entry (plainFor_of_name rfl) rfl (Nat.le_of_ble_eq_true rfl) ?_
  show sd_J mX9_number ((l, G), (4, 85), [.ref a0], (sd_oI ρ, h2), cT) 0 [(0, .ref a0)] [] h cT
  unfold fX9_number at hf
  refine sj_iconst (v := 0) dX9_number_0 (by decide) ?_
  refine sj_istore_n [(1, .int 0), (0, .ref a0)] dX9_number_1 (by decide) rfl ?_
  refine sj_iconst (v := 0) dX9_number_2 (by decide) ?_
  refine sj_istore_n [(2, .int 0), (1, .int 0), (0, .ref a0)] dX9_number_3 (by decide) rfl ?_
  exact sj_loc [2, 1, 0] rfl (sX9_number_b4_loop l G a0 ρ h2 cT sd_FU (a0, 0, 0) _ _ hf)
/-! SofaDig$Empire.<init>(II)V -/
abbrev cX11_init : ByteArray := prog_10_method_1_code
def yX11_init : MethodName := ⟨RX11, "<init>", "(II)V"⟩
def dkwX11_init_0 : List UInt8 := [42, 183, 0, 1, 42, 27, 181, 0, 7, 42, 28, 181, 0, 13, 177]
abbrev dktX11_init_0 : List UInt8 := dkwX11_init_0 ++ []
theorem dksX11_init_0 : cX11_init.data.toList.drop 0 = dktX11_init_0 := by decide +kernel
theorem dX11_init_0 : decode cX11_init 0 = .ok (.aload_n 0, 1) := dk_42 (dk_at dksX11_init_0 0 rfl rfl)
theorem dX11_init_1 : decode cX11_init 1 = .ok (.invokespecial 1, 3) := dk_183 0 1 (dk_at dksX11_init_0 1 rfl rfl)
theorem dX11_init_4 : decode cX11_init 4 = .ok (.aload_n 0, 1) := dk_42 (dk_at dksX11_init_0 4 rfl rfl)
theorem dX11_init_5 : decode cX11_init 5 = .ok (.iload_n 1, 1) := dk_27 (dk_at dksX11_init_0 5 rfl rfl)
theorem dX11_init_6 : decode cX11_init 6 = .ok (.putfield 7, 3) := dk_181 0 7 (dk_at dksX11_init_0 6 rfl rfl)
theorem dX11_init_9 : decode cX11_init 9 = .ok (.aload_n 0, 1) := dk_42 (dk_at dksX11_init_0 9 rfl rfl)
theorem dX11_init_10 : decode cX11_init 10 = .ok (.iload_n 2, 1) := dk_28 (dk_at dksX11_init_0 10 rfl rfl)
theorem dX11_init_11 : decode cX11_init 11 = .ok (.putfield 13, 3) := dk_181 0 13 (dk_at dksX11_init_0 11 rfl rfl)
theorem dX11_init_14 : decode cX11_init 14 = .ok (.return_, 1) := dk_177 (dk_at dksX11_init_0 14 rfl rfl)
theorem fpX11_init_7 : sd_Fp yX11_init 7 10 0 .int := ⟨(RX11, TX11, 2), "SofaDig$Empire", tyX11, rfl, by decide, rfl, in_X11, Or.inl rfl, tyX11_ok, nmX11, rfl, Or.inr ⟨rfl, rfl, rfl, q1627⟩⟩
theorem fpX11_init_13 : sd_Fp yX11_init 13 10 1 .int := ⟨(RX11, TX11, 2), "SofaDig$Empire", tyX11, rfl, by decide, rfl, in_X11, Or.inl rfl, tyX11_ok, nmX11, rfl, Or.inr ⟨rfl, rfl, rfl, q1630⟩⟩
abbrev mX11_init : sd_Y := (yX11_init, cX11_init, 3, none, none)
def fX11_init (G : sd_G) (a0 : Nat) (a1 : Int32) (a2 : Int32) : sd_M Unit :=
  sd_bnd (sd_put 10 0 .int a0 (.int a1)) fun _ =>
  sd_bnd (sd_put 10 1 .int a0 (.int a2)) fun _ =>
  sd_ret ()
set_option maxHeartbeats 4000000 in
theorem sX11_init (l : Launch) (G : sd_G) (a0 : Nat) (a1 : Int32) (a2 : Int32) (h : sd_H) (ρ : Unit) (cT : Nat × Nat) (h2 : sd_H) (hf : fX11_init G a0 a1 a2 h = some (ρ, cT, h2)) : sd_Met mX11_init ((l, G), (1, 12), [.ref a0, .int a1, .int a2], (sd_oV ρ, h2), cT) h := by
  refine sd_entry (plainFor_of_name rfl) rfl (Nat.le_of_ble_eq_true rfl) ?_
  show sd_J mX11_init ((l, G), (1, 12), [.ref a0, .int a1, .int a2], (sd_oV ρ, h2), cT) 0 [(0, .ref a0), (1, .int a1), (2, .int a2)] [] h cT
  unfold fX11_init at hf
  refine sj_aload_n 0 dX11_init_0 rfl ?_
  refine sj_objInit q1626 q188 q189 (Nat.le_of_ble_eq_true rfl) (Nat.le_of_ble_eq_true rfl) dX11_init_1 ?_
  refine sj_aload_n 0 dX11_init_4 rfl ?_
  refine sj_iload_n 1 dX11_init_5 rfl ?_
  refine sj_put fpX11_init_7 hf dX11_init_6 (fun h hf => ?_)
  refine sj_aload_n 0 dX11_init_9 rfl ?_
  refine sj_iload_n 2 dX11_init_10 rfl ?_
  refine sj_put fpX11_init_13 hf dX11_init_11 (fun h hf => ?_)
  exact sj_vret (o := sd_oV) hf rfl rfl rfl dX11_init_14
/-! SofaDig$Find.<init>(ZII)V -/
abbrev cX12_init : ByteArray := prog_12_method_1_code
def yX12_init : MethodName := ⟨RX12, "<init>", "(ZII)V"⟩
def dkwX12_init_0 : List UInt8 := [42, 183, 0, 1, 42, 27, 181, 0, 7, 42, 28, 181, 0, 13, 42, 29, 181, 0, 17, 177]
abbrev dktX12_init_0 : List UInt8 := dkwX12_init_0 ++ []
theorem dksX12_init_0 : cX12_init.data.toList.drop 0 = dktX12_init_0 := by decide +kernel
theorem dX12_init_0 : decode cX12_init 0 = .ok (.aload_n 0, 1) := dk_42 (dk_at dksX12_init_0 0 rfl rfl)
theorem dX12_init_1 : decode cX12_init 1 = .ok (.invokespecial 1, 3) := dk_183 0 1 (dk_at dksX12_init_0 1 rfl rfl)
theorem dX12_init_4 : decode cX12_init 4 = .ok (.aload_n 0, 1) := dk_42 (dk_at dksX12_init_0 4 rfl rfl)
theorem dX12_init_5 : decode cX12_init 5 = .ok (.iload_n 1, 1) := dk_27 (dk_at dksX12_init_0 5 rfl rfl)
theorem dX12_init_6 : decode cX12_init 6 = .ok (.putfield 7, 3) := dk_181 0 7 (dk_at dksX12_init_0 6 rfl rfl)
theorem dX12_init_9 : decode cX12_init 9 = .ok (.aload_n 0, 1) := dk_42 (dk_at dksX12_init_0 9 rfl rfl)
theorem dX12_init_10 : decode cX12_init 10 = .ok (.iload_n 2, 1) := dk_28 (dk_at dksX12_init_0 10 rfl rfl)
theorem dX12_init_11 : decode cX12_init 11 = .ok (.putfield 13, 3) := dk_181 0 13 (dk_at dksX12_init_0 11 rfl rfl)
theorem dX12_init_14 : decode cX12_init 14 = .ok (.aload_n 0, 1) := dk_42 (dk_at dksX12_init_0 14 rfl rfl)
theorem dX12_init_15 : decode cX12_init 15 = .ok (.iload_n 3, 1) := dk_29 (dk_at dksX12_init_0 15 rfl rfl)
theorem dX12_init_16 : decode cX12_init 16 = .ok (.putfield 17, 3) := dk_181 0 17 (dk_at dksX12_init_0 16 rfl rfl)
theorem dX12_init_19 : decode cX12_init 19 = .ok (.return_, 1) := dk_177 (dk_at dksX12_init_0 19 rfl rfl)
theorem fpX12_init_7 : sd_Fp yX12_init 7 11 0 .boolean := ⟨(RX12, TX12, 3), "SofaDig$Find", tyX12, rfl, by decide, rfl, in_X12, Or.inl rfl, tyX12_ok, nmX12, rfl, Or.inr ⟨rfl, rfl, rfl, q1836⟩⟩
theorem fpX12_init_13 : sd_Fp yX12_init 13 11 1 .int := ⟨(RX12, TX12, 3), "SofaDig$Find", tyX12, rfl, by decide, rfl, in_X12, Or.inl rfl, tyX12_ok, nmX12, rfl, Or.inr ⟨rfl, rfl, rfl, q1839⟩⟩
theorem fpX12_init_17 : sd_Fp yX12_init 17 11 2 .int := ⟨(RX12, TX12, 3), "SofaDig$Find", tyX12, rfl, by decide, rfl, in_X12, Or.inl rfl, tyX12_ok, nmX12, rfl, Or.inr ⟨rfl, rfl, rfl, q1842⟩⟩
abbrev mX12_init : sd_Y := (yX12_init, cX12_init, 4, none, none)
def fX12_init (G : sd_G) (a0 : Nat) (a1 : Int32) (a2 : Int32) (a3 : Int32) : sd_M Unit :=
  sd_bnd (sd_put 11 0 .boolean a0 (.int a1)) fun _ =>
  sd_bnd (sd_put 11 1 .int a0 (.int a2)) fun _ =>
  sd_bnd (sd_put 11 2 .int a0 (.int a3)) fun _ =>
  sd_ret ()
set_option maxHeartbeats 4000000 in
theorem sX12_init (l : Launch) (G : sd_G) (a0 : Nat) (a1 : Int32) (a2 : Int32) (a3 : Int32) (h : sd_H) (ρ : Unit) (cT : Nat × Nat) (h2 : sd_H) (hf : fX12_init G a0 a1 a2 a3 h = some (ρ, cT, h2)) : sd_Met mX12_init ((l, G), (1, 12), [.ref a0, .int a1, .int a2, .int a3], (sd_oV ρ, h2), cT) h := by
  refine sd_entry (plainFor_of_name rfl) rfl (Nat.le_of_ble_eq_true rfl) ?_
  show sd_J mX12_init ((l, G), (1, 12), [.ref a0, .int a1, .int a2, .int a3], (sd_oV ρ, h2), cT) 0 [(0, .ref a0), (1, .int a1), (2, .int a2), (3, .int a3)] [] h cT
  unfold fX12_init at hf
  refine sj_aload_n 0 dX12_init_0 rfl ?_
  refine sj_objInit q1835 q188 q189 (Nat.le_of_ble_eq_true rfl) (Nat.le_of_ble_eq_true rfl) dX12_init_1 ?_
  refine sj_aload_n 0 dX12_init_4 rfl ?_
  refine sj_iload_n 1 dX12_init_5 rfl ?_
  refine sj_put fpX12_init_7 hf dX12_init_6 (fun h hf => ?_)
  refine sj_aload_n 0 dX12_init_9 rfl ?_
  refine sj_iload_n 2 dX12_init_10 rfl ?_
  refine sj_put fpX12_init_13 hf dX12_init_11 (fun h hf => ?_)
  refine sj_aload_n 0 dX12_init_14 rfl ?_
  refine sj_iload_n 3 dX12_init_15 rfl ?_
  refine sj_put fpX12_init_17 hf dX12_init_16 (fun h hf => ?_)
  exact sj_vret (o := sd_oV) hf rfl rfl rfl dX12_init_19
/-! SofaDig$Sum.<init>()V -/
abbrev cX13_init : ByteArray := prog_31_method_1_code
def yX13_init : MethodName := ⟨RX13, "<init>", "()V"⟩
theorem dX13_init_0 : decode cX13_init 0 = .ok (.aload_n 0, 1) := by decide +kernel
theorem dX13_init_1 : decode cX13_init 1 = .ok (.invokespecial 1, 3) := by decide +kernel
theorem dX13_init_4 : decode cX13_init 4 = .ok (.return_, 1) := by decide +kernel
abbrev mX13_init : sd_Y := (yX13_init, cX13_init, 1, none, none)
def fX13_init (G : sd_G) (a0 : Nat) : sd_M Unit :=
  sd_ret ()
set_option maxHeartbeats 4000000 in
theorem sX13_init (l : Launch) (G : sd_G) (a0 : Nat) (h : sd_H) (ρ : Unit) (cT : Nat × Nat) (h2 : sd_H) (hf : fX13_init G a0 h = some (ρ, cT, h2)) : sd_Met mX13_init ((l, G), (1, 12), [.ref a0], (sd_oV ρ, h2), cT) h := by
  refine sd_entry (plainFor_of_name rfl) rfl (Nat.le_of_ble_eq_true rfl) ?_
  show sd_J mX13_init ((l, G), (1, 12), [.ref a0], (sd_oV ρ, h2), cT) 0 [(0, .ref a0)] [] h cT
  unfold fX13_init at hf
  refine sj_aload_n 0 dX13_init_0 rfl ?_
  refine sj_objInit q1884 q188 q189 (Nat.le_of_ble_eq_true rfl) (Nat.le_of_ble_eq_true rfl) dX13_init_1 ?_
  exact sj_vret (o := sd_oV) hf rfl rfl rfl dX13_init_4
/-! SofaDig$Plain.<init>(I)V -/
abbrev cX14_init : ByteArray := prog_17_method_1_code
def yX14_init : MethodName := ⟨RX14, "<init>", "(I)V"⟩
def dkwX14_init_0 : List UInt8 := [42, 183, 0, 1, 42, 27, 181, 0, 7, 177]
abbrev dktX14_init_0 : List UInt8 := dkwX14_init_0 ++ []
theorem dksX14_init_0 : cX14_init.data.toList.drop 0 = dktX14_init_0 := by decide +kernel
theorem dX14_init_0 : decode cX14_init 0 = .ok (.aload_n 0, 1) := dk_42 (dk_at dksX14_init_0 0 rfl rfl)
theorem dX14_init_1 : decode cX14_init 1 = .ok (.invokespecial 1, 3) := dk_183 0 1 (dk_at dksX14_init_0 1 rfl rfl)
theorem dX14_init_4 : decode cX14_init 4 = .ok (.aload_n 0, 1) := dk_42 (dk_at dksX14_init_0 4 rfl rfl)
theorem dX14_init_5 : decode cX14_init 5 = .ok (.iload_n 1, 1) := dk_27 (dk_at dksX14_init_0 5 rfl rfl)
theorem dX14_init_6 : decode cX14_init 6 = .ok (.putfield 7, 3) := dk_181 0 7 (dk_at dksX14_init_0 6 rfl rfl)
theorem dX14_init_9 : decode cX14_init 9 = .ok (.return_, 1) := dk_177 (dk_at dksX14_init_0 9 rfl rfl)
theorem fpX14_init_7 : sd_Fp yX14_init 7 12 0 .int := ⟨(RX14, TX14, 1), "SofaDig$Plain", tyX14, rfl, by decide, rfl, in_X14, Or.inl rfl, tyX14_ok, nmX14, rfl, Or.inr ⟨rfl, rfl, rfl, q1885⟩⟩
abbrev mX14_init : sd_Y := (yX14_init, cX14_init, 2, none, none)
def fX14_init (G : sd_G) (a0 : Nat) (a1 : Int32) : sd_M Unit :=
  sd_bnd (fX13_init G a0) fun _ =>
  sd_bnd (sd_put 12 0 .int a0 (.int a1)) fun _ =>
  sd_ret ()
set_option maxHeartbeats 4000000 in
theorem sX14_init (l : Launch) (G : sd_G) (a0 : Nat) (a1 : Int32) (h : sd_H) (ρ : Unit) (cT : Nat × Nat) (h2 : sd_H) (hf : fX14_init G a0 a1 h = some (ρ, cT, h2)) : sd_Met mX14_init ((l, G), (2, 32), [.ref a0, .int a1], (sd_oV ρ, h2), cT) h := by
  refine sd_entry (plainFor_of_name rfl) rfl (Nat.le_of_ble_eq_true rfl) ?_
  show sd_J mX14_init ((l, G), (2, 32), [.ref a0, .int a1], (sd_oV ρ, h2), cT) 0 [(0, .ref a0), (1, .int a1)] [] h cT
  unfold fX14_init at hf
  refine sj_aload_n 0 dX14_init_0 rfl ?_
  refine sj_cV (rest := []) (fun _ _ _ e => sj_runIN (n := 0) (a := a0) (As := []) (rest := []) (sX13_init l G a0 h _ _ _ e) rfl rfl q1881 q1882 q162 q1883 rfl (by decide +kernel) rfl rfl (fun _ z => by cases z) ⟨Nat.le_of_ble_eq_true rfl, Nat.le_of_ble_eq_true rfl⟩ rfl (Nat.le_of_ble_eq_true rfl) dX14_init_1) hf (fun h c hf => ?_)
  refine sj_aload_n 0 dX14_init_4 rfl ?_
  refine sj_iload_n 1 dX14_init_5 rfl ?_
  refine sj_put fpX14_init_7 hf dX14_init_6 (fun h hf => ?_)
  exact sj_vret (o := sd_oV) hf rfl rfl rfl dX14_init_9
/-! SofaDig$Asked.<init>(LSofaDig$What;I)V -/
abbrev cX15_init : ByteArray := prog_2_method_1_code
def yX15_init : MethodName := ⟨RX15, "<init>", "(LSofaDig$What;I)V"⟩
def dkwX15_init_0 : List UInt8 := [42, 183, 0, 1, 42, 43, 181, 0, 7, 42, 28, 181, 0, 13, 177]
abbrev dktX15_init_0 : List UInt8 := dkwX15_init_0 ++ []
theorem dksX15_init_0 : cX15_init.data.toList.drop 0 = dktX15_init_0 := by decide +kernel
theorem dX15_init_0 : decode cX15_init 0 = .ok (.aload_n 0, 1) := dk_42 (dk_at dksX15_init_0 0 rfl rfl)
theorem dX15_init_1 : decode cX15_init 1 = .ok (.invokespecial 1, 3) := dk_183 0 1 (dk_at dksX15_init_0 1 rfl rfl)
theorem dX15_init_4 : decode cX15_init 4 = .ok (.aload_n 0, 1) := dk_42 (dk_at dksX15_init_0 4 rfl rfl)
theorem dX15_init_5 : decode cX15_init 5 = .ok (.aload_n 1, 1) := dk_43 (dk_at dksX15_init_0 5 rfl rfl)
theorem dX15_init_6 : decode cX15_init 6 = .ok (.putfield 7, 3) := dk_181 0 7 (dk_at dksX15_init_0 6 rfl rfl)
theorem dX15_init_9 : decode cX15_init 9 = .ok (.aload_n 0, 1) := dk_42 (dk_at dksX15_init_0 9 rfl rfl)
theorem dX15_init_10 : decode cX15_init 10 = .ok (.iload_n 2, 1) := dk_28 (dk_at dksX15_init_0 10 rfl rfl)
theorem dX15_init_11 : decode cX15_init 11 = .ok (.putfield 13, 3) := dk_181 0 13 (dk_at dksX15_init_0 11 rfl rfl)
theorem dX15_init_14 : decode cX15_init 14 = .ok (.return_, 1) := dk_177 (dk_at dksX15_init_0 14 rfl rfl)
theorem fpX15_init_7 : sd_Fp yX15_init 7 13 0 (.object "SofaDig$What") := ⟨(RX15, TX15, 2), "SofaDig$Asked", tyX15, rfl, by decide, rfl, in_X15, Or.inl rfl, tyX15_ok, nmX15, rfl, Or.inr ⟨rfl, rfl, rfl, q1903⟩⟩
theorem fpX15_init_13 : sd_Fp yX15_init 13 13 1 .int := ⟨(RX15, TX15, 2), "SofaDig$Asked", tyX15, rfl, by decide, rfl, in_X15, Or.inl rfl, tyX15_ok, nmX15, rfl, Or.inr ⟨rfl, rfl, rfl, q1904⟩⟩
abbrev mX15_init : sd_Y := (yX15_init, cX15_init, 3, none, none)
def fX15_init (G : sd_G) (a0 : Nat) (a1 : Nat) (a2 : Int32) : sd_M Unit :=
  sd_bnd (fX13_init G a0) fun _ =>
  sd_bnd (sd_put 13 0 (.object "SofaDig$What") a0 (.ref a1)) fun _ =>
  sd_bnd (sd_put 13 1 .int a0 (.int a2)) fun _ =>
  sd_ret ()
set_option maxHeartbeats 4000000 in
theorem sX15_init (l : Launch) (G : sd_G) (a0 : Nat) (a1 : Nat) (a2 : Int32) (h : sd_H) (ρ : Unit) (cT : Nat × Nat) (h2 : sd_H) (hf : fX15_init G a0 a1 a2 h = some (ρ, cT, h2)) : sd_Met mX15_init ((l, G), (2, 32), [.ref a0, .ref a1, .int a2], (sd_oV ρ, h2), cT) h := by
  refine sd_entry (plainFor_of_name rfl) rfl (Nat.le_of_ble_eq_true rfl) ?_
  show sd_J mX15_init ((l, G), (2, 32), [.ref a0, .ref a1, .int a2], (sd_oV ρ, h2), cT) 0 [(0, .ref a0), (1, .ref a1), (2, .int a2)] [] h cT
  unfold fX15_init at hf
  refine sj_aload_n 0 dX15_init_0 rfl ?_
  refine sj_cV (rest := []) (fun _ _ _ e => sj_runIN (n := 0) (a := a0) (As := []) (rest := []) (sX13_init l G a0 h _ _ _ e) rfl rfl q1902 q1882 q162 q1883 rfl (by decide +kernel) rfl rfl (fun _ z => by cases z) ⟨Nat.le_of_ble_eq_true rfl, Nat.le_of_ble_eq_true rfl⟩ rfl (Nat.le_of_ble_eq_true rfl) dX15_init_1) hf (fun h c hf => ?_)
  refine sj_aload_n 0 dX15_init_4 rfl ?_
  refine sj_aload_n 1 dX15_init_5 rfl ?_
  refine sj_put fpX15_init_7 hf dX15_init_6 (fun h hf => ?_)
  refine sj_aload_n 0 dX15_init_9 rfl ?_
  refine sj_iload_n 2 dX15_init_10 rfl ?_
  refine sj_put fpX15_init_13 hf dX15_init_11 (fun h hf => ?_)
  exact sj_vret (o := sd_oV) hf rfl rfl rfl dX15_init_14
/-! SofaDig$Height.<init>(LSofaDig$Sum;)V -/
abbrev cX16_init : ByteArray := prog_13_method_1_code
def yX16_init : MethodName := ⟨RX16, "<init>", "(LSofaDig$Sum;)V"⟩
def dkwX16_init_0 : List UInt8 := [42, 183, 0, 1, 42, 43, 181, 0, 7, 177]
abbrev dktX16_init_0 : List UInt8 := dkwX16_init_0 ++ []
theorem dksX16_init_0 : cX16_init.data.toList.drop 0 = dktX16_init_0 := by decide +kernel
theorem dX16_init_0 : decode cX16_init 0 = .ok (.aload_n 0, 1) := dk_42 (dk_at dksX16_init_0 0 rfl rfl)
theorem dX16_init_1 : decode cX16_init 1 = .ok (.invokespecial 1, 3) := dk_183 0 1 (dk_at dksX16_init_0 1 rfl rfl)
theorem dX16_init_4 : decode cX16_init 4 = .ok (.aload_n 0, 1) := dk_42 (dk_at dksX16_init_0 4 rfl rfl)
theorem dX16_init_5 : decode cX16_init 5 = .ok (.aload_n 1, 1) := dk_43 (dk_at dksX16_init_0 5 rfl rfl)
theorem dX16_init_6 : decode cX16_init 6 = .ok (.putfield 7, 3) := dk_181 0 7 (dk_at dksX16_init_0 6 rfl rfl)
theorem dX16_init_9 : decode cX16_init 9 = .ok (.return_, 1) := dk_177 (dk_at dksX16_init_0 9 rfl rfl)
theorem fpX16_init_7 : sd_Fp yX16_init 7 14 0 (.object "SofaDig$Sum") := ⟨(RX16, TX16, 1), "SofaDig$Height", tyX16, rfl, by decide, rfl, in_X16, Or.inl rfl, tyX16_ok, nmX16, rfl, Or.inr ⟨rfl, rfl, rfl, q1927⟩⟩
abbrev mX16_init : sd_Y := (yX16_init, cX16_init, 2, none, none)
def fX16_init (G : sd_G) (a0 : Nat) (a1 : Nat) : sd_M Unit :=
  sd_bnd (fX13_init G a0) fun _ =>
  sd_bnd (sd_put 14 0 (.object "SofaDig$Sum") a0 (.ref a1)) fun _ =>
  sd_ret ()
set_option maxHeartbeats 4000000 in
theorem sX16_init (l : Launch) (G : sd_G) (a0 : Nat) (a1 : Nat) (h : sd_H) (ρ : Unit) (cT : Nat × Nat) (h2 : sd_H) (hf : fX16_init G a0 a1 h = some (ρ, cT, h2)) : sd_Met mX16_init ((l, G), (2, 32), [.ref a0, .ref a1], (sd_oV ρ, h2), cT) h := by
  refine sd_entry (plainFor_of_name rfl) rfl (Nat.le_of_ble_eq_true rfl) ?_
  show sd_J mX16_init ((l, G), (2, 32), [.ref a0, .ref a1], (sd_oV ρ, h2), cT) 0 [(0, .ref a0), (1, .ref a1)] [] h cT
  unfold fX16_init at hf
  refine sj_aload_n 0 dX16_init_0 rfl ?_
  refine sj_cV (rest := []) (fun _ _ _ e => sj_runIN (n := 0) (a := a0) (As := []) (rest := []) (sX13_init l G a0 h _ _ _ e) rfl rfl q1926 q1882 q162 q1883 rfl (by decide +kernel) rfl rfl (fun _ z => by cases z) ⟨Nat.le_of_ble_eq_true rfl, Nat.le_of_ble_eq_true rfl⟩ rfl (Nat.le_of_ble_eq_true rfl) dX16_init_1) hf (fun h c hf => ?_)
  refine sj_aload_n 0 dX16_init_4 rfl ?_
  refine sj_aload_n 1 dX16_init_5 rfl ?_
  refine sj_put fpX16_init_7 hf dX16_init_6 (fun h hf => ?_)
  exact sj_vret (o := sd_oV) hf rfl rfl rfl dX16_init_9
/-! SofaDig$Turned.<init>(LSofaDig$Sum;)V -/
abbrev cX17_init : ByteArray := prog_37_method_1_code
def yX17_init : MethodName := ⟨RX17, "<init>", "(LSofaDig$Sum;)V"⟩
def dkwX17_init_0 : List UInt8 := [42, 183, 0, 1, 42, 43, 181, 0, 7, 177]
abbrev dktX17_init_0 : List UInt8 := dkwX17_init_0 ++ []
theorem dksX17_init_0 : cX17_init.data.toList.drop 0 = dktX17_init_0 := by decide +kernel
theorem dX17_init_0 : decode cX17_init 0 = .ok (.aload_n 0, 1) := dk_42 (dk_at dksX17_init_0 0 rfl rfl)
theorem dX17_init_1 : decode cX17_init 1 = .ok (.invokespecial 1, 3) := dk_183 0 1 (dk_at dksX17_init_0 1 rfl rfl)
theorem dX17_init_4 : decode cX17_init 4 = .ok (.aload_n 0, 1) := dk_42 (dk_at dksX17_init_0 4 rfl rfl)
theorem dX17_init_5 : decode cX17_init 5 = .ok (.aload_n 1, 1) := dk_43 (dk_at dksX17_init_0 5 rfl rfl)
theorem dX17_init_6 : decode cX17_init 6 = .ok (.putfield 7, 3) := dk_181 0 7 (dk_at dksX17_init_0 6 rfl rfl)
theorem dX17_init_9 : decode cX17_init 9 = .ok (.return_, 1) := dk_177 (dk_at dksX17_init_0 9 rfl rfl)
theorem fpX17_init_7 : sd_Fp yX17_init 7 15 0 (.object "SofaDig$Sum") := ⟨(RX17, TX17, 1), "SofaDig$Turned", tyX17, rfl, by decide, rfl, in_X17, Or.inl rfl, tyX17_ok, nmX17, rfl, Or.inr ⟨rfl, rfl, rfl, q1938⟩⟩
abbrev mX17_init : sd_Y := (yX17_init, cX17_init, 2, none, none)
def fX17_init (G : sd_G) (a0 : Nat) (a1 : Nat) : sd_M Unit :=
  sd_bnd (fX13_init G a0) fun _ =>
  sd_bnd (sd_put 15 0 (.object "SofaDig$Sum") a0 (.ref a1)) fun _ =>
  sd_ret ()
set_option maxHeartbeats 4000000 in
theorem sX17_init (l : Launch) (G : sd_G) (a0 : Nat) (a1 : Nat) (h : sd_H) (ρ : Unit) (cT : Nat × Nat) (h2 : sd_H) (hf : fX17_init G a0 a1 h = some (ρ, cT, h2)) : sd_Met mX17_init ((l, G), (2, 32), [.ref a0, .ref a1], (sd_oV ρ, h2), cT) h := by
  refine sd_entry (plainFor_of_name rfl) rfl (Nat.le_of_ble_eq_true rfl) ?_
  show sd_J mX17_init ((l, G), (2, 32), [.ref a0, .ref a1], (sd_oV ρ, h2), cT) 0 [(0, .ref a0), (1, .ref a1)] [] h cT
  unfold fX17_init at hf
  refine sj_aload_n 0 dX17_init_0 rfl ?_
  refine sj_cV (rest := []) (fun _ _ _ e => sj_runIN (n := 0) (a := a0) (As := []) (rest := []) (sX13_init l G a0 h _ _ _ e) rfl rfl q1937 q1882 q162 q1883 rfl (by decide +kernel) rfl rfl (fun _ z => by cases z) ⟨Nat.le_of_ble_eq_true rfl, Nat.le_of_ble_eq_true rfl⟩ rfl (Nat.le_of_ble_eq_true rfl) dX17_init_1) hf (fun h c hf => ?_)
  refine sj_aload_n 0 dX17_init_4 rfl ?_
  refine sj_aload_n 1 dX17_init_5 rfl ?_
  refine sj_put fpX17_init_7 hf dX17_init_6 (fun h hf => ?_)
  exact sj_vret (o := sd_oV) hf rfl rfl rfl dX17_init_9
/-! SofaDig$Joined.<init>(LSofaDig$Sign;LSofaDig$Sum;LSofaDig$Sum;)V -/
abbrev cX18_init : ByteArray := prog_14_method_1_code
def yX18_init : MethodName := ⟨RX18, "<init>", "(LSofaDig$Sign;LSofaDig$Sum;LSofaDig$Sum;)V"⟩
def dkwX18_init_0 : List UInt8 := [42, 183, 0, 1, 42, 43, 181, 0, 7, 42, 44, 181, 0, 13, 42, 45, 181, 0, 17, 177]
abbrev dktX18_init_0 : List UInt8 := dkwX18_init_0 ++ []
theorem dksX18_init_0 : cX18_init.data.toList.drop 0 = dktX18_init_0 := by decide +kernel
theorem dX18_init_0 : decode cX18_init 0 = .ok (.aload_n 0, 1) := dk_42 (dk_at dksX18_init_0 0 rfl rfl)
theorem dX18_init_1 : decode cX18_init 1 = .ok (.invokespecial 1, 3) := dk_183 0 1 (dk_at dksX18_init_0 1 rfl rfl)
theorem dX18_init_4 : decode cX18_init 4 = .ok (.aload_n 0, 1) := dk_42 (dk_at dksX18_init_0 4 rfl rfl)
theorem dX18_init_5 : decode cX18_init 5 = .ok (.aload_n 1, 1) := dk_43 (dk_at dksX18_init_0 5 rfl rfl)
theorem dX18_init_6 : decode cX18_init 6 = .ok (.putfield 7, 3) := dk_181 0 7 (dk_at dksX18_init_0 6 rfl rfl)
theorem dX18_init_9 : decode cX18_init 9 = .ok (.aload_n 0, 1) := dk_42 (dk_at dksX18_init_0 9 rfl rfl)
theorem dX18_init_10 : decode cX18_init 10 = .ok (.aload_n 2, 1) := dk_44 (dk_at dksX18_init_0 10 rfl rfl)
theorem dX18_init_11 : decode cX18_init 11 = .ok (.putfield 13, 3) := dk_181 0 13 (dk_at dksX18_init_0 11 rfl rfl)
theorem dX18_init_14 : decode cX18_init 14 = .ok (.aload_n 0, 1) := dk_42 (dk_at dksX18_init_0 14 rfl rfl)
theorem dX18_init_15 : decode cX18_init 15 = .ok (.aload_n 3, 1) := dk_45 (dk_at dksX18_init_0 15 rfl rfl)
theorem dX18_init_16 : decode cX18_init 16 = .ok (.putfield 17, 3) := dk_181 0 17 (dk_at dksX18_init_0 16 rfl rfl)
theorem dX18_init_19 : decode cX18_init 19 = .ok (.return_, 1) := dk_177 (dk_at dksX18_init_0 19 rfl rfl)
theorem fpX18_init_7 : sd_Fp yX18_init 7 16 0 (.object "SofaDig$Sign") := ⟨(RX18, TX18, 3), "SofaDig$Joined", tyX18, rfl, by decide, rfl, in_X18, Or.inl rfl, tyX18_ok, nmX18, rfl, Or.inr ⟨rfl, rfl, rfl, q1952⟩⟩
theorem fpX18_init_13 : sd_Fp yX18_init 13 16 1 (.object "SofaDig$Sum") := ⟨(RX18, TX18, 3), "SofaDig$Joined", tyX18, rfl, by decide, rfl, in_X18, Or.inl rfl, tyX18_ok, nmX18, rfl, Or.inr ⟨rfl, rfl, rfl, q1953⟩⟩
theorem fpX18_init_17 : sd_Fp yX18_init 17 16 2 (.object "SofaDig$Sum") := ⟨(RX18, TX18, 3), "SofaDig$Joined", tyX18, rfl, by decide, rfl, in_X18, Or.inl rfl, tyX18_ok, nmX18, rfl, Or.inr ⟨rfl, rfl, rfl, q1954⟩⟩
abbrev mX18_init : sd_Y := (yX18_init, cX18_init, 4, none, none)
def fX18_init (G : sd_G) (a0 : Nat) (a1 : Nat) (a2 : Nat) (a3 : Nat) : sd_M Unit :=
  sd_bnd (fX13_init G a0) fun _ =>
  sd_bnd (sd_put 16 0 (.object "SofaDig$Sign") a0 (.ref a1)) fun _ =>
  sd_bnd (sd_put 16 1 (.object "SofaDig$Sum") a0 (.ref a2)) fun _ =>
  sd_bnd (sd_put 16 2 (.object "SofaDig$Sum") a0 (.ref a3)) fun _ =>
  sd_ret ()
set_option maxHeartbeats 4000000 in
theorem sX18_init (l : Launch) (G : sd_G) (a0 : Nat) (a1 : Nat) (a2 : Nat) (a3 : Nat) (h : sd_H) (ρ : Unit) (cT : Nat × Nat) (h2 : sd_H) (hf : fX18_init G a0 a1 a2 a3 h = some (ρ, cT, h2)) : sd_Met mX18_init ((l, G), (2, 32), [.ref a0, .ref a1, .ref a2, .ref a3], (sd_oV ρ, h2), cT) h := by
  refine sd_entry (plainFor_of_name rfl) rfl (Nat.le_of_ble_eq_true rfl) ?_
  show sd_J mX18_init ((l, G), (2, 32), [.ref a0, .ref a1, .ref a2, .ref a3], (sd_oV ρ, h2), cT) 0 [(0, .ref a0), (1, .ref a1), (2, .ref a2), (3, .ref a3)] [] h cT
  unfold fX18_init at hf
  refine sj_aload_n 0 dX18_init_0 rfl ?_
  refine sj_cV (rest := []) (fun _ _ _ e => sj_runIN (n := 0) (a := a0) (As := []) (rest := []) (sX13_init l G a0 h _ _ _ e) rfl rfl q1951 q1882 q162 q1883 rfl (by decide +kernel) rfl rfl (fun _ z => by cases z) ⟨Nat.le_of_ble_eq_true rfl, Nat.le_of_ble_eq_true rfl⟩ rfl (Nat.le_of_ble_eq_true rfl) dX18_init_1) hf (fun h c hf => ?_)
  refine sj_aload_n 0 dX18_init_4 rfl ?_
  refine sj_aload_n 1 dX18_init_5 rfl ?_
  refine sj_put fpX18_init_7 hf dX18_init_6 (fun h hf => ?_)
  refine sj_aload_n 0 dX18_init_9 rfl ?_
  refine sj_aload_n 2 dX18_init_10 rfl ?_
  refine sj_put fpX18_init_13 hf dX18_init_11 (fun h hf => ?_)
  refine sj_aload_n 0 dX18_init_14 rfl ?_
  refine sj_aload_n 3 dX18_init_15 rfl ?_
  refine sj_put fpX18_init_17 hf dX18_init_16 (fun h hf => ?_)
  exact sj_vret (o := sd_oV) hf rfl rfl rfl dX18_init_19
/-! SofaDig$Several.<init>(Z)V -/
abbrev cX20_init : ByteArray := prog_21_method_1_code
def yX20_init : MethodName := ⟨RX20, "<init>", "(Z)V"⟩
def dkwX20_init_0 : List UInt8 := [42, 183, 0, 1, 42, 187, 0, 7, 89, 183, 0, 9, 181, 0, 10, 42, 27, 181, 0, 16, 177]
abbrev dktX20_init_0 : List UInt8 := dkwX20_init_0 ++ []
theorem dksX20_init_0 : cX20_init.data.toList.drop 0 = dktX20_init_0 := by decide +kernel
theorem dX20_init_0 : decode cX20_init 0 = .ok (.aload_n 0, 1) := dk_42 (dk_at dksX20_init_0 0 rfl rfl)
theorem dX20_init_1 : decode cX20_init 1 = .ok (.invokespecial 1, 3) := dk_183 0 1 (dk_at dksX20_init_0 1 rfl rfl)
theorem dX20_init_4 : decode cX20_init 4 = .ok (.aload_n 0, 1) := dk_42 (dk_at dksX20_init_0 4 rfl rfl)
theorem dX20_init_5 : decode cX20_init 5 = .ok (.new 7, 3) := dk_187 0 7 (dk_at dksX20_init_0 5 rfl rfl)
theorem dX20_init_8 : decode cX20_init 8 = .ok (.dup, 1) := dk_89 (dk_at dksX20_init_0 8 rfl rfl)
theorem dX20_init_9 : decode cX20_init 9 = .ok (.invokespecial 9, 3) := dk_183 0 9 (dk_at dksX20_init_0 9 rfl rfl)
theorem dX20_init_12 : decode cX20_init 12 = .ok (.putfield 10, 3) := dk_181 0 10 (dk_at dksX20_init_0 12 rfl rfl)
theorem dX20_init_15 : decode cX20_init 15 = .ok (.aload_n 0, 1) := dk_42 (dk_at dksX20_init_0 15 rfl rfl)
theorem dX20_init_16 : decode cX20_init 16 = .ok (.iload_n 1, 1) := dk_27 (dk_at dksX20_init_0 16 rfl rfl)
theorem dX20_init_17 : decode cX20_init 17 = .ok (.putfield 16, 3) := dk_181 0 16 (dk_at dksX20_init_0 17 rfl rfl)
theorem dX20_init_20 : decode cX20_init 20 = .ok (.return_, 1) := dk_177 (dk_at dksX20_init_0 20 rfl rfl)
theorem fnX20_7 : sd_Fn "SofaDig$Several" 7 41 3 [.int 0, .null, .int 0] := ⟨(RJ2, TJ2, 3), tyJ2, rfl, rfl, in_J2, q1986, q213, q121, tyJ2_ok, fun j hj => by revert j; decide⟩
theorem fpX20_init_10 : sd_Fp yX20_init 10 18 1 (.object "java/util/ArrayList") := ⟨(RX20, TX20, 2), "SofaDig$Several", tyX20, rfl, by decide, rfl, in_X20, Or.inl rfl, tyX20_ok, nmX20, rfl, Or.inr ⟨rfl, rfl, rfl, q1989⟩⟩
theorem fpX20_init_16 : sd_Fp yX20_init 16 18 0 .boolean := ⟨(RX20, TX20, 2), "SofaDig$Several", tyX20, rfl, by decide, rfl, in_X20, Or.inl rfl, tyX20_ok, nmX20, rfl, Or.inr ⟨rfl, rfl, rfl, q1988⟩⟩
abbrev mX20_init : sd_Y := (yX20_init, cX20_init, 2, none, none)
def fX20_init (G : sd_G) (a0 : Nat) (a1 : Int32) : sd_M Unit :=
  sd_bnd (sd_new 41 3 [.int 0, .null, .int 0]) fun o1 =>
  sd_bnd (fJ2_init G o1) fun _ =>
  sd_bnd (sd_put 18 1 (.object "java/util/ArrayList") a0 (.ref o1)) fun _ =>
  sd_bnd (sd_put 18 0 .boolean a0 (.int a1)) fun _ =>
  sd_ret ()
set_option maxHeartbeats 4000000 in
theorem sX20_init (l : Launch) (G : sd_G) (a0 : Nat) (a1 : Int32) (h : sd_H) (ρ : Unit) (cT : Nat × Nat) (h2 : sd_H) (hf : fX20_init G a0 a1 h = some (ρ, cT, h2)) : sd_Met mX20_init ((l, G), (4, 72), [.ref a0, .int a1], (sd_oV ρ, h2), cT) h := by
  refine sd_entry (plainFor_of_name rfl) rfl (Nat.le_of_ble_eq_true rfl) ?_
  show sd_J mX20_init ((l, G), (4, 72), [.ref a0, .int a1], (sd_oV ρ, h2), cT) 0 [(0, .ref a0), (1, .int a1)] [] h cT
  unfold fX20_init at hf
  refine sj_aload_n 0 dX20_init_0 rfl ?_
  refine sj_objInit q1985 q188 q189 (Nat.le_of_ble_eq_true rfl) (Nat.le_of_ble_eq_true rfl) dX20_init_1 ?_
  refine sj_aload_n 0 dX20_init_4 rfl ?_
  refine sj_new fnX20_7 hf dX20_init_5 (fun o1 h c hf => ?_)
  refine sj_dup dX20_init_8 rfl ?_
  refine sj_cV (rest := [.ref o1, .ref a0]) (fun _ _ _ e => sj_runI (n := 0) (a := o1) (As := []) (rest := [.ref o1, .ref a0]) (sJ2_init l G o1 h _ _ _ e) rfl rfl q1987 q215 q121 q216 rfl (by decide +kernel) rfl rfl (fun _ z => by cases z) ⟨Nat.le_of_ble_eq_true rfl, Nat.le_of_ble_eq_true rfl⟩ rfl (Nat.le_of_ble_eq_true rfl) dX20_init_9) hf (fun h c hf => ?_)
  refine sj_put fpX20_init_10 hf dX20_init_12 (fun h hf => ?_)
  refine sj_aload_n 0 dX20_init_15 rfl ?_
  refine sj_iload_n 1 dX20_init_16 rfl ?_
  refine sj_put fpX20_init_16 hf dX20_init_17 (fun h hf => ?_)
  exact sj_vret (o := sd_oV) hf rfl rfl rfl dX20_init_20
/-! SofaDig$Denied.<init>(LSofaDig$Test;)V -/
abbrev cX21_init : ByteArray := prog_9_method_1_code
def yX21_init : MethodName := ⟨RX21, "<init>", "(LSofaDig$Test;)V"⟩
def dkwX21_init_0 : List UInt8 := [42, 183, 0, 1, 42, 43, 181, 0, 7, 177]
abbrev dktX21_init_0 : List UInt8 := dkwX21_init_0 ++ []
theorem dksX21_init_0 : cX21_init.data.toList.drop 0 = dktX21_init_0 := by decide +kernel
theorem dX21_init_0 : decode cX21_init 0 = .ok (.aload_n 0, 1) := dk_42 (dk_at dksX21_init_0 0 rfl rfl)
theorem dX21_init_1 : decode cX21_init 1 = .ok (.invokespecial 1, 3) := dk_183 0 1 (dk_at dksX21_init_0 1 rfl rfl)
theorem dX21_init_4 : decode cX21_init 4 = .ok (.aload_n 0, 1) := dk_42 (dk_at dksX21_init_0 4 rfl rfl)
theorem dX21_init_5 : decode cX21_init 5 = .ok (.aload_n 1, 1) := dk_43 (dk_at dksX21_init_0 5 rfl rfl)
theorem dX21_init_6 : decode cX21_init 6 = .ok (.putfield 7, 3) := dk_181 0 7 (dk_at dksX21_init_0 6 rfl rfl)
theorem dX21_init_9 : decode cX21_init 9 = .ok (.return_, 1) := dk_177 (dk_at dksX21_init_0 9 rfl rfl)
theorem fpX21_init_7 : sd_Fp yX21_init 7 19 0 (.object "SofaDig$Test") := ⟨(RX21, TX21, 1), "SofaDig$Denied", tyX21, rfl, by decide, rfl, in_X21, Or.inl rfl, tyX21_ok, nmX21, rfl, Or.inr ⟨rfl, rfl, rfl, q2011⟩⟩
abbrev mX21_init : sd_Y := (yX21_init, cX21_init, 2, none, none)
def fX21_init (G : sd_G) (a0 : Nat) (a1 : Nat) : sd_M Unit :=
  sd_bnd (sd_put 19 0 (.object "SofaDig$Test") a0 (.ref a1)) fun _ =>
  sd_ret ()
set_option maxHeartbeats 4000000 in
theorem sX21_init (l : Launch) (G : sd_G) (a0 : Nat) (a1 : Nat) (h : sd_H) (ρ : Unit) (cT : Nat × Nat) (h2 : sd_H) (hf : fX21_init G a0 a1 h = some (ρ, cT, h2)) : sd_Met mX21_init ((l, G), (1, 12), [.ref a0, .ref a1], (sd_oV ρ, h2), cT) h := by
  refine sd_entry (plainFor_of_name rfl) rfl (Nat.le_of_ble_eq_true rfl) ?_
  show sd_J mX21_init ((l, G), (1, 12), [.ref a0, .ref a1], (sd_oV ρ, h2), cT) 0 [(0, .ref a0), (1, .ref a1)] [] h cT
  unfold fX21_init at hf
  refine sj_aload_n 0 dX21_init_0 rfl ?_
  refine sj_objInit q2010 q188 q189 (Nat.le_of_ble_eq_true rfl) (Nat.le_of_ble_eq_true rfl) dX21_init_1 ?_
  refine sj_aload_n 0 dX21_init_4 rfl ?_
  refine sj_aload_n 1 dX21_init_5 rfl ?_
  refine sj_put fpX21_init_7 hf dX21_init_6 (fun h hf => ?_)
  exact sj_vret (o := sd_oV) hf rfl rfl rfl dX21_init_9
/-! SofaDig$Seen.<init>(I)V -/
abbrev cX22_init : ByteArray := prog_20_method_1_code
def yX22_init : MethodName := ⟨RX22, "<init>", "(I)V"⟩
def dkwX22_init_0 : List UInt8 := [42, 183, 0, 1, 42, 27, 181, 0, 7, 177]
abbrev dktX22_init_0 : List UInt8 := dkwX22_init_0 ++ []
theorem dksX22_init_0 : cX22_init.data.toList.drop 0 = dktX22_init_0 := by decide +kernel
theorem dX22_init_0 : decode cX22_init 0 = .ok (.aload_n 0, 1) := dk_42 (dk_at dksX22_init_0 0 rfl rfl)
theorem dX22_init_1 : decode cX22_init 1 = .ok (.invokespecial 1, 3) := dk_183 0 1 (dk_at dksX22_init_0 1 rfl rfl)
theorem dX22_init_4 : decode cX22_init 4 = .ok (.aload_n 0, 1) := dk_42 (dk_at dksX22_init_0 4 rfl rfl)
theorem dX22_init_5 : decode cX22_init 5 = .ok (.iload_n 1, 1) := dk_27 (dk_at dksX22_init_0 5 rfl rfl)
theorem dX22_init_6 : decode cX22_init 6 = .ok (.putfield 7, 3) := dk_181 0 7 (dk_at dksX22_init_0 6 rfl rfl)
theorem dX22_init_9 : decode cX22_init 9 = .ok (.return_, 1) := dk_177 (dk_at dksX22_init_0 9 rfl rfl)
theorem fpX22_init_7 : sd_Fp yX22_init 7 20 0 .int := ⟨(RX22, TX22, 1), "SofaDig$Seen", tyX22, rfl, by decide, rfl, in_X22, Or.inl rfl, tyX22_ok, nmX22, rfl, Or.inr ⟨rfl, rfl, rfl, q2024⟩⟩
abbrev mX22_init : sd_Y := (yX22_init, cX22_init, 2, none, none)
def fX22_init (G : sd_G) (a0 : Nat) (a1 : Int32) : sd_M Unit :=
  sd_bnd (sd_put 20 0 .int a0 (.int a1)) fun _ =>
  sd_ret ()
set_option maxHeartbeats 4000000 in
theorem sX22_init (l : Launch) (G : sd_G) (a0 : Nat) (a1 : Int32) (h : sd_H) (ρ : Unit) (cT : Nat × Nat) (h2 : sd_H) (hf : fX22_init G a0 a1 h = some (ρ, cT, h2)) : sd_Met mX22_init ((l, G), (1, 12), [.ref a0, .int a1], (sd_oV ρ, h2), cT) h := by
  refine sd_entry (plainFor_of_name rfl) rfl (Nat.le_of_ble_eq_true rfl) ?_
  show sd_J mX22_init ((l, G), (1, 12), [.ref a0, .int a1], (sd_oV ρ, h2), cT) 0 [(0, .ref a0), (1, .int a1)] [] h cT
  unfold fX22_init at hf
  refine sj_aload_n 0 dX22_init_0 rfl ?_
  refine sj_objInit q2023 q188 q189 (Nat.le_of_ble_eq_true rfl) (Nat.le_of_ble_eq_true rfl) dX22_init_1 ?_
  refine sj_aload_n 0 dX22_init_4 rfl ?_
  refine sj_iload_n 1 dX22_init_5 rfl ?_
  refine sj_put fpX22_init_7 hf dX22_init_6 (fun h hf => ?_)
  exact sj_vret (o := sd_oV) hf rfl rfl rfl dX22_init_9
/-! SofaDig$Sure.<init>(LSofaDig$Sum;)V -/
abbrev cX23_init : ByteArray := prog_32_method_1_code
def yX23_init : MethodName := ⟨RX23, "<init>", "(LSofaDig$Sum;)V"⟩
def dkwX23_init_0 : List UInt8 := [42, 183, 0, 3, 42, 43, 181, 0, 9, 177]
abbrev dktX23_init_0 : List UInt8 := dkwX23_init_0 ++ []
theorem dksX23_init_0 : cX23_init.data.toList.drop 0 = dktX23_init_0 := by decide +kernel
theorem dX23_init_0 : decode cX23_init 0 = .ok (.aload_n 0, 1) := dk_42 (dk_at dksX23_init_0 0 rfl rfl)
theorem dX23_init_1 : decode cX23_init 1 = .ok (.invokespecial 3, 3) := dk_183 0 3 (dk_at dksX23_init_0 1 rfl rfl)
theorem dX23_init_4 : decode cX23_init 4 = .ok (.aload_n 0, 1) := dk_42 (dk_at dksX23_init_0 4 rfl rfl)
theorem dX23_init_5 : decode cX23_init 5 = .ok (.aload_n 1, 1) := dk_43 (dk_at dksX23_init_0 5 rfl rfl)
theorem dX23_init_6 : decode cX23_init 6 = .ok (.putfield 9, 3) := dk_181 0 9 (dk_at dksX23_init_0 6 rfl rfl)
theorem dX23_init_9 : decode cX23_init 9 = .ok (.return_, 1) := dk_177 (dk_at dksX23_init_0 9 rfl rfl)
theorem fpX23_init_9 : sd_Fp yX23_init 9 21 0 (.object "SofaDig$Sum") := ⟨(RX23, TX23, 1), "SofaDig$Sure", tyX23, rfl, by decide, rfl, in_X23, Or.inl rfl, tyX23_ok, nmX23, rfl, Or.inr ⟨rfl, rfl, rfl, q2035⟩⟩
abbrev mX23_init : sd_Y := (yX23_init, cX23_init, 2, none, none)
def fX23_init (G : sd_G) (a0 : Nat) (a1 : Nat) : sd_M Unit :=
  sd_bnd (sd_put 21 0 (.object "SofaDig$Sum") a0 (.ref a1)) fun _ =>
  sd_ret ()
set_option maxHeartbeats 4000000 in
theorem sX23_init (l : Launch) (G : sd_G) (a0 : Nat) (a1 : Nat) (h : sd_H) (ρ : Unit) (cT : Nat × Nat) (h2 : sd_H) (hf : fX23_init G a0 a1 h = some (ρ, cT, h2)) : sd_Met mX23_init ((l, G), (1, 12), [.ref a0, .ref a1], (sd_oV ρ, h2), cT) h := by
  refine sd_entry (plainFor_of_name rfl) rfl (Nat.le_of_ble_eq_true rfl) ?_
  show sd_J mX23_init ((l, G), (1, 12), [.ref a0, .ref a1], (sd_oV ρ, h2), cT) 0 [(0, .ref a0), (1, .ref a1)] [] h cT
  unfold fX23_init at hf
  refine sj_aload_n 0 dX23_init_0 rfl ?_
  refine sj_objInit q2034 q188 q189 (Nat.le_of_ble_eq_true rfl) (Nat.le_of_ble_eq_true rfl) dX23_init_1 ?_
  refine sj_aload_n 0 dX23_init_4 rfl ?_
  refine sj_aload_n 1 dX23_init_5 rfl ?_
  refine sj_put fpX23_init_9 hf dX23_init_6 (fun h hf => ?_)
  exact sj_vret (o := sd_oV) hf rfl rfl rfl dX23_init_9
/-! SofaDig$Compared.<init>(Ljava/lang/String;LSofaDig$Sum;LSofaDig$Sum;)V -/
abbrev cX24_init : ByteArray := prog_3_method_1_code
def yX24_init : MethodName := ⟨RX24, "<init>", "(Ljava/lang/String;LSofaDig$Sum;LSofaDig$Sum;)V"⟩
def dkwX24_init_0 : List UInt8 := [42, 183, 0, 1, 42, 43, 181, 0, 7, 42, 44, 181, 0, 13, 42, 45, 181, 0, 17, 177]
abbrev dktX24_init_0 : List UInt8 := dkwX24_init_0 ++ []
theorem dksX24_init_0 : cX24_init.data.toList.drop 0 = dktX24_init_0 := by decide +kernel
theorem dX24_init_0 : decode cX24_init 0 = .ok (.aload_n 0, 1) := dk_42 (dk_at dksX24_init_0 0 rfl rfl)
theorem dX24_init_1 : decode cX24_init 1 = .ok (.invokespecial 1, 3) := dk_183 0 1 (dk_at dksX24_init_0 1 rfl rfl)
theorem dX24_init_4 : decode cX24_init 4 = .ok (.aload_n 0, 1) := dk_42 (dk_at dksX24_init_0 4 rfl rfl)
theorem dX24_init_5 : decode cX24_init 5 = .ok (.aload_n 1, 1) := dk_43 (dk_at dksX24_init_0 5 rfl rfl)
theorem dX24_init_6 : decode cX24_init 6 = .ok (.putfield 7, 3) := dk_181 0 7 (dk_at dksX24_init_0 6 rfl rfl)
theorem dX24_init_9 : decode cX24_init 9 = .ok (.aload_n 0, 1) := dk_42 (dk_at dksX24_init_0 9 rfl rfl)
theorem dX24_init_10 : decode cX24_init 10 = .ok (.aload_n 2, 1) := dk_44 (dk_at dksX24_init_0 10 rfl rfl)
theorem dX24_init_11 : decode cX24_init 11 = .ok (.putfield 13, 3) := dk_181 0 13 (dk_at dksX24_init_0 11 rfl rfl)
theorem dX24_init_14 : decode cX24_init 14 = .ok (.aload_n 0, 1) := dk_42 (dk_at dksX24_init_0 14 rfl rfl)
theorem dX24_init_15 : decode cX24_init 15 = .ok (.aload_n 3, 1) := dk_45 (dk_at dksX24_init_0 15 rfl rfl)
theorem dX24_init_16 : decode cX24_init 16 = .ok (.putfield 17, 3) := dk_181 0 17 (dk_at dksX24_init_0 16 rfl rfl)
theorem dX24_init_19 : decode cX24_init 19 = .ok (.return_, 1) := dk_177 (dk_at dksX24_init_0 19 rfl rfl)
theorem fpX24_init_7 : sd_Fp yX24_init 7 22 0 (.object "java/lang/String") := ⟨(RX24, TX24, 3), "SofaDig$Compared", tyX24, rfl, by decide, rfl, in_X24, Or.inl rfl, tyX24_ok, nmX24, rfl, Or.inr ⟨rfl, rfl, rfl, q2049⟩⟩
theorem fpX24_init_13 : sd_Fp yX24_init 13 22 1 (.object "SofaDig$Sum") := ⟨(RX24, TX24, 3), "SofaDig$Compared", tyX24, rfl, by decide, rfl, in_X24, Or.inl rfl, tyX24_ok, nmX24, rfl, Or.inr ⟨rfl, rfl, rfl, q2050⟩⟩
theorem fpX24_init_17 : sd_Fp yX24_init 17 22 2 (.object "SofaDig$Sum") := ⟨(RX24, TX24, 3), "SofaDig$Compared", tyX24, rfl, by decide, rfl, in_X24, Or.inl rfl, tyX24_ok, nmX24, rfl, Or.inr ⟨rfl, rfl, rfl, q2051⟩⟩
abbrev mX24_init : sd_Y := (yX24_init, cX24_init, 4, none, none)
def fX24_init (G : sd_G) (a0 : Nat) (a1 : Nat) (a2 : Nat) (a3 : Nat) : sd_M Unit :=
  sd_bnd (sd_put 22 0 (.object "java/lang/String") a0 (.ref a1)) fun _ =>
  sd_bnd (sd_put 22 1 (.object "SofaDig$Sum") a0 (.ref a2)) fun _ =>
  sd_bnd (sd_put 22 2 (.object "SofaDig$Sum") a0 (.ref a3)) fun _ =>
  sd_ret ()
set_option maxHeartbeats 4000000 in
theorem sX24_init (l : Launch) (G : sd_G) (a0 : Nat) (a1 : Nat) (a2 : Nat) (a3 : Nat) (h : sd_H) (ρ : Unit) (cT : Nat × Nat) (h2 : sd_H) (hf : fX24_init G a0 a1 a2 a3 h = some (ρ, cT, h2)) : sd_Met mX24_init ((l, G), (1, 12), [.ref a0, .ref a1, .ref a2, .ref a3], (sd_oV ρ, h2), cT) h := by
  refine sd_entry (plainFor_of_name rfl) rfl (Nat.le_of_ble_eq_true rfl) ?_
  show sd_J mX24_init ((l, G), (1, 12), [.ref a0, .ref a1, .ref a2, .ref a3], (sd_oV ρ, h2), cT) 0 [(0, .ref a0), (1, .ref a1), (2, .ref a2), (3, .ref a3)] [] h cT
  unfold fX24_init at hf
  refine sj_aload_n 0 dX24_init_0 rfl ?_
  refine sj_objInit q2048 q188 q189 (Nat.le_of_ble_eq_true rfl) (Nat.le_of_ble_eq_true rfl) dX24_init_1 ?_
  refine sj_aload_n 0 dX24_init_4 rfl ?_
  refine sj_aload_n 1 dX24_init_5 rfl ?_
  refine sj_put fpX24_init_7 hf dX24_init_6 (fun h hf => ?_)
  refine sj_aload_n 0 dX24_init_9 rfl ?_
  refine sj_aload_n 2 dX24_init_10 rfl ?_
  refine sj_put fpX24_init_13 hf dX24_init_11 (fun h hf => ?_)
  refine sj_aload_n 0 dX24_init_14 rfl ?_
  refine sj_aload_n 3 dX24_init_15 rfl ?_
  refine sj_put fpX24_init_17 hf dX24_init_16 (fun h hf => ?_)
  exact sj_vret (o := sd_oV) hf rfl rfl rfl dX24_init_19
/-! SofaDig$Test$1.<init>()V -/
abbrev cX26_init : ByteArray := prog_35_method_1_code
def yX26_init : MethodName := ⟨RX26, "<init>", "()V"⟩
theorem dX26_init_0 : decode cX26_init 0 = .ok (.aload_n 0, 1) := by decide +kernel
theorem dX26_init_1 : decode cX26_init 1 = .ok (.invokespecial 1, 3) := by decide +kernel
theorem dX26_init_4 : decode cX26_init 4 = .ok (.return_, 1) := by decide +kernel
abbrev mX26_init : sd_Y := (yX26_init, cX26_init, 1, none, none)
def fX26_init (G : sd_G) (a0 : Nat) : sd_M Unit :=
  sd_ret ()
set_option maxHeartbeats 4000000 in
theorem sX26_init (l : Launch) (G : sd_G) (a0 : Nat) (h : sd_H) (ρ : Unit) (cT : Nat × Nat) (h2 : sd_H) (hf : fX26_init G a0 h = some (ρ, cT, h2)) : sd_Met mX26_init ((l, G), (1, 12), [.ref a0], (sd_oV ρ, h2), cT) h := by
  refine sd_entry (plainFor_of_name rfl) rfl (Nat.le_of_ble_eq_true rfl) ?_
  show sd_J mX26_init ((l, G), (1, 12), [.ref a0], (sd_oV ρ, h2), cT) 0 [(0, .ref a0)] [] h cT
  unfold fX26_init at hf
  refine sj_aload_n 0 dX26_init_0 rfl ?_
  refine sj_objInit q2069 q188 q189 (Nat.le_of_ble_eq_true rfl) (Nat.le_of_ble_eq_true rfl) dX26_init_1 ?_
  exact sj_vret (o := sd_oV) hf rfl rfl rfl dX26_init_4
/-! SofaDig$Test.always()LSofaDig$Test; -/
abbrev cX25_always : ByteArray := prog_34_method_2_code
def yX25_always : MethodName := ⟨RX25, "always", "()LSofaDig$Test;"⟩
def dkwX25_always_0 : List UInt8 := [187, 0, 1, 89, 183, 0, 3, 176]
abbrev dktX25_always_0 : List UInt8 := dkwX25_always_0 ++ []
theorem dksX25_always_0 : cX25_always.data.toList.drop 0 = dktX25_always_0 := by decide +kernel
theorem dX25_always_0 : decode cX25_always 0 = .ok (.new 1, 3) := dk_187 0 1 (dk_at dksX25_always_0 0 rfl rfl)
theorem dX25_always_3 : decode cX25_always 3 = .ok (.dup, 1) := dk_89 (dk_at dksX25_always_0 3 rfl rfl)
theorem dX25_always_4 : decode cX25_always 4 = .ok (.invokespecial 3, 3) := dk_183 0 3 (dk_at dksX25_always_0 4 rfl rfl)
theorem dX25_always_7 : decode cX25_always 7 = .ok (.areturn, 1) := dk_176 (dk_at dksX25_always_0 7 rfl rfl)
theorem fnX25_1 : sd_Fn "SofaDig$Test" 1 23 0 [] := ⟨(RX26, TZ0, 0), fun _ => .int, rfl, rfl, (fun _ h => nomatch h), q2064, q2065, q178, fun j hj => absurd hj (Nat.not_lt_zero j), fun j hj => absurd hj (Nat.not_lt_zero j)⟩
abbrev mX25_always : sd_Y := (yX25_always, cX25_always, 0, some (.object "SofaDig$Test"), none)
def fX25_always (G : sd_G)  : sd_M Nat :=
  sd_bnd (sd_new 23 0 []) fun o1 =>
  sd_bnd (fX26_init G o1) fun _ =>
  sd_ret o1
set_option maxHeartbeats 4000000 in
theorem sX25_always (l : Launch) (G : sd_G)  (h : sd_H) (ρ : Nat) (cT : Nat × Nat) (h2 : sd_H) (hf : fX25_always G  h = some (ρ, cT, h2)) : sd_Met mX25_always ((l, G), (2, 32), [], (sd_oR ρ, h2), cT) h := by
  refine sd_entry (plainFor_of_name rfl) rfl (Nat.le_of_ble_eq_true rfl) ?_
  show sd_J mX25_always ((l, G), (2, 32), [], (sd_oR ρ, h2), cT) 0 [] [] h cT
  unfold fX25_always at hf
  refine sj_new fnX25_1 hf dX25_always_0 (fun o1 h c hf => ?_)
  refine sj_dup dX25_always_3 rfl ?_
  refine sj_cV (rest := [.ref o1]) (fun _ _ _ e => sj_runI (n := 0) (a := o1) (As := []) (rest := [.ref o1]) (sX26_init l G o1 h _ _ _ e) rfl rfl q2066 q2067 q178 q2068 rfl (by decide +kernel) rfl rfl (fun _ z => by cases z) ⟨Nat.le_of_ble_eq_true rfl, Nat.le_of_ble_eq_true rfl⟩ rfl (Nat.le_of_ble_eq_true rfl) dX25_always_4) hf (fun h c hf => ?_)
  exact sj_aret (o := sd_oR) hf rfl rfl rfl (Or.inl ⟨_, rfl⟩) dX25_always_7
/-! SofaDig$Order.<init>(LSofaDig$Craft;LSofaDig$Sum;LSofaDig$Test;)V -/
abbrev cX19_init : ByteArray := prog_16_method_1_code
def yX19_init : MethodName := ⟨RX19, "<init>", "(LSofaDig$Craft;LSofaDig$Sum;LSofaDig$Test;)V"⟩
def dkwX19_init_0 : List UInt8 := [42, 183, 0, 1, 42, 43, 181, 0, 7, 42, 44, 181, 0, 13, 42, 45, 181, 0, 17, 177]
abbrev dktX19_init_0 : List UInt8 := dkwX19_init_0 ++ []
theorem dksX19_init_0 : cX19_init.data.toList.drop 0 = dktX19_init_0 := by decide +kernel
theorem dX19_init_0 : decode cX19_init 0 = .ok (.aload_n 0, 1) := dk_42 (dk_at dksX19_init_0 0 rfl rfl)
theorem dX19_init_1 : decode cX19_init 1 = .ok (.invokespecial 1, 3) := dk_183 0 1 (dk_at dksX19_init_0 1 rfl rfl)
theorem dX19_init_4 : decode cX19_init 4 = .ok (.aload_n 0, 1) := dk_42 (dk_at dksX19_init_0 4 rfl rfl)
theorem dX19_init_5 : decode cX19_init 5 = .ok (.aload_n 1, 1) := dk_43 (dk_at dksX19_init_0 5 rfl rfl)
theorem dX19_init_6 : decode cX19_init 6 = .ok (.putfield 7, 3) := dk_181 0 7 (dk_at dksX19_init_0 6 rfl rfl)
theorem dX19_init_9 : decode cX19_init 9 = .ok (.aload_n 0, 1) := dk_42 (dk_at dksX19_init_0 9 rfl rfl)
theorem dX19_init_10 : decode cX19_init 10 = .ok (.aload_n 2, 1) := dk_44 (dk_at dksX19_init_0 10 rfl rfl)
theorem dX19_init_11 : decode cX19_init 11 = .ok (.putfield 13, 3) := dk_181 0 13 (dk_at dksX19_init_0 11 rfl rfl)
theorem dX19_init_14 : decode cX19_init 14 = .ok (.aload_n 0, 1) := dk_42 (dk_at dksX19_init_0 14 rfl rfl)
theorem dX19_init_15 : decode cX19_init 15 = .ok (.aload_n 3, 1) := dk_45 (dk_at dksX19_init_0 15 rfl rfl)
theorem dX19_init_16 : decode cX19_init 16 = .ok (.putfield 17, 3) := dk_181 0 17 (dk_at dksX19_init_0 16 rfl rfl)
theorem dX19_init_19 : decode cX19_init 19 = .ok (.return_, 1) := dk_177 (dk_at dksX19_init_0 19 rfl rfl)
theorem fpX19_init_7 : sd_Fp yX19_init 7 17 0 (.object "SofaDig$Craft") := ⟨(RX19, TX19, 3), "SofaDig$Order", tyX19, rfl, by decide, rfl, in_X19, Or.inl rfl, tyX19_ok, nmX19, rfl, Or.inr ⟨rfl, rfl, rfl, q2075⟩⟩
theorem fpX19_init_13 : sd_Fp yX19_init 13 17 1 (.object "SofaDig$Sum") := ⟨(RX19, TX19, 3), "SofaDig$Order", tyX19, rfl, by decide, rfl, in_X19, Or.inl rfl, tyX19_ok, nmX19, rfl, Or.inr ⟨rfl, rfl, rfl, q2077⟩⟩
theorem fpX19_init_17 : sd_Fp yX19_init 17 17 2 (.object "SofaDig$Test") := ⟨(RX19, TX19, 3), "SofaDig$Order", tyX19, rfl, by decide, rfl, in_X19, Or.inl rfl, tyX19_ok, nmX19, rfl, Or.inr ⟨rfl, rfl, rfl, q2079⟩⟩
abbrev mX19_init : sd_Y := (yX19_init, cX19_init, 4, none, none)
def fX19_init (G : sd_G) (a0 : Nat) (a1 : Nat) (a2 : Nat) (a3 : Nat) : sd_M Unit :=
  sd_bnd (sd_put 17 0 (.object "SofaDig$Craft") a0 (.ref a1)) fun _ =>
  sd_bnd (sd_put 17 1 (.object "SofaDig$Sum") a0 (.ref a2)) fun _ =>
  sd_bnd (sd_put 17 2 (.object "SofaDig$Test") a0 (.ref a3)) fun _ =>
  sd_ret ()
set_option maxHeartbeats 4000000 in
theorem sX19_init (l : Launch) (G : sd_G) (a0 : Nat) (a1 : Nat) (a2 : Nat) (a3 : Nat) (h : sd_H) (ρ : Unit) (cT : Nat × Nat) (h2 : sd_H) (hf : fX19_init G a0 a1 a2 a3 h = some (ρ, cT, h2)) : sd_Met mX19_init ((l, G), (1, 12), [.ref a0, .ref a1, .ref a2, .ref a3], (sd_oV ρ, h2), cT) h := by
  refine sd_entry (plainFor_of_name rfl) rfl (Nat.le_of_ble_eq_true rfl) ?_
  show sd_J mX19_init ((l, G), (1, 12), [.ref a0, .ref a1, .ref a2, .ref a3], (sd_oV ρ, h2), cT) 0 [(0, .ref a0), (1, .ref a1), (2, .ref a2), (3, .ref a3)] [] h cT
  unfold fX19_init at hf
  refine sj_aload_n 0 dX19_init_0 rfl ?_
  refine sj_objInit q2074 q188 q189 (Nat.le_of_ble_eq_true rfl) (Nat.le_of_ble_eq_true rfl) dX19_init_1 ?_
  refine sj_aload_n 0 dX19_init_4 rfl ?_
  refine sj_aload_n 1 dX19_init_5 rfl ?_
  refine sj_put fpX19_init_7 hf dX19_init_6 (fun h hf => ?_)
  refine sj_aload_n 0 dX19_init_9 rfl ?_
  refine sj_aload_n 2 dX19_init_10 rfl ?_
  refine sj_put fpX19_init_13 hf dX19_init_11 (fun h hf => ?_)
  refine sj_aload_n 0 dX19_init_14 rfl ?_
  refine sj_aload_n 3 dX19_init_15 rfl ?_
  refine sj_put fpX19_init_17 hf dX19_init_16 (fun h hf => ?_)
  exact sj_vret (o := sd_oV) hf rfl rfl rfl dX19_init_19
/-! SofaDig$Sofa.found()I -/
abbrev cX3_found : ByteArray := prog_29_method_14_code
def yX3_found : MethodName := ⟨RX3, "found", "()I"⟩
def dkwX3_found_1 : List UInt8 := [153, 0, 7, 4, 167, 0, 4, 3, 96, 60, 132, 2, 1, 167, 255, 225, 27, 172]
abbrev dktX3_found_1 : List UInt8 := dkwX3_found_1 ++ []
def dkwX3_found_0 : List UInt8 := [3, 60, 3, 61, 28, 42, 180, 0, 28, 182, 0, 54, 162, 0, 26, 27, 42, 180, 0, 34, 28, 46]
abbrev dktX3_found_0 : List UInt8 := dkwX3_found_0 ++ dktX3_found_1
theorem dksX3_found_0 : cX3_found.data.toList.drop 0 = dktX3_found_0 := by decide +kernel
theorem dksX3_found_1 : cX3_found.data.toList.drop 22 = dktX3_found_1 := dk_seg dksX3_found_0 22 rfl rfl
theorem dX3_found_0 : decode cX3_found 0 = .ok (.iconst 0, 1) := dk_3 (dk_at dksX3_found_0 0 rfl rfl)
theorem dX3_found_1 : decode cX3_found 1 = .ok (.istore_n 1, 1) := dk_60 (dk_at dksX3_found_0 1 rfl rfl)
theorem dX3_found_2 : decode cX3_found 2 = .ok (.iconst 0, 1) := dk_3 (dk_at dksX3_found_0 2 rfl rfl)
theorem dX3_found_3 : decode cX3_found 3 = .ok (.istore_n 2, 1) := dk_61 (dk_at dksX3_found_0 3 rfl rfl)
theorem dX3_found_4 : decode cX3_found 4 = .ok (.iload_n 2, 1) := dk_28 (dk_at dksX3_found_0 4 rfl rfl)
theorem dX3_found_5 : decode cX3_found 5 = .ok (.aload_n 0, 1) := dk_42 (dk_at dksX3_found_0 5 rfl rfl)
theorem dX3_found_6 : decode cX3_found 6 = .ok (.getfield 28, 3) := dk_180 0 28 (dk_at dksX3_found_0 6 rfl rfl)
theorem dX3_found_9 : decode cX3_found 9 = .ok (.invokevirtual 54, 3) := dk_182 0 54 (dk_at dksX3_found_0 9 rfl rfl)
theorem dX3_found_12 : decode cX3_found 12 = .ok (.if_icmp .ge 26, 3) := dk_162 0 26 (dk_at dksX3_found_0 12 rfl rfl)
theorem dX3_found_15 : decode cX3_found 15 = .ok (.iload_n 1, 1) := dk_27 (dk_at dksX3_found_0 15 rfl rfl)
theorem dX3_found_16 : decode cX3_found 16 = .ok (.aload_n 0, 1) := dk_42 (dk_at dksX3_found_0 16 rfl rfl)
theorem dX3_found_17 : decode cX3_found 17 = .ok (.getfield 34, 3) := dk_180 0 34 (dk_at dksX3_found_0 17 rfl rfl)
theorem dX3_found_20 : decode cX3_found 20 = .ok (.iload_n 2, 1) := dk_28 (dk_at dksX3_found_0 20 rfl rfl)
theorem dX3_found_21 : decode cX3_found 21 = .ok (.iaload, 1) := dk_46 (dk_at dksX3_found_0 21 rfl rfl)
theorem dX3_found_22 : decode cX3_found 22 = .ok (.ifCond .eq 7, 3) := dk_153 0 7 (dk_at dksX3_found_1 0 rfl rfl)
theorem dX3_found_25 : decode cX3_found 25 = .ok (.iconst 1, 1) := dk_4 (dk_at dksX3_found_1 3 rfl rfl)
theorem dX3_found_26 : decode cX3_found 26 = .ok (.goto 4, 3) := dk_167 0 4 (dk_at dksX3_found_1 4 rfl rfl)
theorem dX3_found_29 : decode cX3_found 29 = .ok (.iconst 0, 1) := dk_3 (dk_at dksX3_found_1 7 rfl rfl)
theorem dX3_found_30 : decode cX3_found 30 = .ok (.iadd, 1) := dk_96 (dk_at dksX3_found_1 8 rfl rfl)
theorem dX3_found_31 : decode cX3_found 31 = .ok (.istore_n 1, 1) := dk_60 (dk_at dksX3_found_1 9 rfl rfl)
theorem dX3_found_32 : decode cX3_found 32 = .ok (.iinc 2 1, 3) := dk_132 2 1 (dk_at dksX3_found_1 10 rfl rfl)
theorem dX3_found_35 : decode cX3_found 35 = .ok (.goto (-31), 3) := dk_167 255 225 (dk_at dksX3_found_1 13 rfl rfl)
theorem dX3_found_38 : decode cX3_found 38 = .ok (.iload_n 1, 1) := dk_27 (dk_at dksX3_found_1 16 rfl rfl)
theorem dX3_found_39 : decode cX3_found 39 = .ok (.ireturn, 1) := dk_172 (dk_at dksX3_found_1 17 rfl rfl)
theorem fdX3_28_2 : sd_Fd "SofaDig$Sofa" 28 2 4 := ⟨(RX3, TX3, 12), "SofaDig$Sofa", rfl, by decide, rfl, in_X3, Or.inl rfl, Or.inl q255⟩
theorem fdX3_34_2 : sd_Fd "SofaDig$Sofa" 34 2 6 := ⟨(RX3, TX3, 12), "SofaDig$Sofa", rfl, by decide, rfl, in_X3, Or.inl rfl, Or.inl q261⟩
abbrev mX3_found : sd_Y := (yX3_found, cX3_found, 3, some (.int), none)
def fX3_found_b4 (G : sd_G) (k4 : Nat × Int32 × Int32 → sd_M Int32) (w0 : Nat) (w1 : Int32) (w2 : Int32) : sd_M Int32 :=
  sd_bnd (sd_getR G 2 4 w0) fun v1 =>
  sd_bnd (sd_isC G 41 v1) fun _ =>
  sd_bnd (fJ2_size G v1) fun r2 =>
  if r2 ≤ w2 then (
    sd_ret w1)
  else (
    sd_bnd (sd_getR G 2 6 w0) fun v3 =>
    sd_bnd (sd_aldI G 0 v3 w2) fun v4 =>
    if v4 = 0 then (
      sd_bnd (sd_ret (w1 + 0)) fun x5 =>
      sd_bnd (sd_ret (w2 + 1)) fun x6 =>
      k4 (w0, x5, x6))
    else (
      sd_bnd (sd_ret (w1 + 1)) fun x7 =>
      sd_bnd (sd_ret (w2 + 1)) fun x8 =>
      k4 (w0, x7, x8)))
set_option maxHeartbeats 4000000 in
theorem sX3_found_b4 (l : Launch) (G : sd_G) (a0 : Nat) (ρ : Int32) (h2 : sd_H) (cT : Nat × Nat) (k4 : Nat × Int32 × Int32 → sd_M Int32) (Hk4 : ∀ (q : Nat × Int32 × Int32) (h : sd_H) (c : Nat × Nat), k4 q h = some (ρ, c, h2) → sd_J mX3_found ((l, G), (1, 20), [.ref a0], (sd_oI ρ, h2), cT) 4 [(0, .ref q.1), (1, .int q.2.1), (2, .int q.2.2)] [] h c) (w0 : Nat) (w1 : Int32) (w2 : Int32) (h : sd_H) (c : Nat × Nat) (hf : fX3_found_b4 G k4 w0 w1 w2 h = some (ρ, c, h2)) : sd_J mX3_found ((l, G), (1, 20), [.ref a0], (sd_oI ρ, h2), cT) 4 [(0, .ref w0), (1, .int w1), (2, .int w2)] [] h c := by
  unfold fX3_found_b4 at hf
  refine sj_iload_n 2 dX3_found_4 rfl ?_
  refine sj_aload_n 0 dX3_found_5 rfl ?_
  refine sj_getR fdX3_28_2 hf dX3_found_6 (fun v1 hf => ?_)
  obtain ⟨fs9, he9, hf⟩ := sd_isC_some hf
  refine sj_cI (rest := [.int w2]) (fun _ _ _ e => sj_runV (n := 0) (As := []) (rest := [.int w2]) (sJ2_size l G v1 h _ _ _ e) he9 rfl rfl rfl rfl q2129 q490 q491 q121 q492 (by decide +kernel) rfl rfl ⟨Nat.le_of_ble_eq_true rfl, Nat.le_of_ble_eq_true rfl⟩ rfl (Nat.le_of_ble_eq_true rfl) dX3_found_9) hf (fun r2 h c hf => ?_)
  refine sj_icge 38 hf dX3_found_12 (by decide) (fun g12 hf => ?_) (fun g12 hf => ?_)
  · refine sj_iload_n 1 dX3_found_38 rfl ?_
    exact sj_iret (o := sd_oI) hf rfl rfl rfl dX3_found_39
  · refine sj_iload_n 1 dX3_found_15 rfl ?_
    refine sj_aload_n 0 dX3_found_16 rfl ?_
    refine sj_getR fdX3_34_2 hf dX3_found_17 (fun v3 hf => ?_)
    refine sj_iload_n 2 dX3_found_20 rfl ?_
    refine sj_iald hf dX3_found_21 (fun v4 hf => ?_)
    refine sj_ifeq 29 hf dX3_found_22 (by decide) (fun g22 hf => ?_) (fun g22 hf => ?_)
    · refine sj_iconst (v := 0) dX3_found_29 (by decide) ?_
      refine sj_iadd dX3_found_30 ?_
      refine sj_nameI hf (fun x5 hf => ?_)
      refine sj_istore_n [(1, .int x5), (0, .ref w0), (2, .int w2)] dX3_found_31 (by decide) rfl ?_
      refine sj_iincN 2 (fun x6 => [(2, .int x6), (1, .int x5), (0, .ref w0)]) 1 hf dX3_found_32 rfl (by decide) (by decide) (fun _ => rfl) (fun x6 hf => ?_)
      refine sj_goto 4 dX3_found_35 (by decide) ?_
      exact sj_loc [2, 1, 0] rfl (Hk4 (w0, x5, x6) _ _ hf)
    · refine sj_iconst (v := 1) dX3_found_25 (by decide) ?_
      refine sj_goto 30 dX3_found_26 (by decide) ?_
      refine sj_iadd dX3_found_30 ?_
      refine sj_nameI hf (fun x7 hf => ?_)
      refine sj_istore_n [(1, .int x7), (0, .ref w0), (2, .int w2)] dX3_found_31 (by decide) rfl ?_
      refine sj_iincN 2 (fun x8 => [(2, .int x8), (1, .int x7), (0, .ref w0)]) 1 hf dX3_found_32 rfl (by decide) (by decide) (fun _ => rfl) (fun x8 hf => ?_)
      refine sj_goto 4 dX3_found_35 (by decide) ?_
      exact sj_loc [2, 1, 0] rfl (Hk4 (w0, x7, x8) _ _ hf)
theorem sX3_found_b4_loop (l : Launch) (G : sd_G) (a0 : Nat) (ρ : Int32) (h2 : sd_H) (cT : Nat × Nat) (n : Nat) : ∀ (q : Nat × Int32 × Int32) (h : sd_H) (c : Nat × Nat), sd_loop (fun k s => fX3_found_b4 G k s.1 s.2.1 s.2.2) n q h = some (ρ, c, h2) → sd_J mX3_found ((l, G), (1, 20), [.ref a0], (sd_oI ρ, h2), cT) 4 [(0, .ref q.1), (1, .int q.2.1), (2, .int q.2.2)] [] h c := by
  induction n with
  | zero => intro q h c hf; cases hf
  | succ n ih => intro q h c hf; exact sX3_found_b4 l G a0 ρ h2 cT _ ih _ _ _ _ _ hf
def fX3_found (G : sd_G) (a0 : Nat) : sd_M Int32 :=
  sd_loop (fun k s => fX3_found_b4 G k s.1 s.2.1 s.2.2) sd_FU (a0, 0, 0)
set_option maxHeartbeats 4000000 in
theorem sX3_found (l : Launch) (G : sd_G) (a0 : Nat) (h : sd_H) (ρ : Int32) (cT : Nat × Nat) (h2 : sd_H) (hf : fX3_found G a0 h = some (ρ, cT, h2)) : sd_Met mX3_found ((l, G), (1, 20), [.ref a0], (sd_oI ρ, h2), cT) h := by
  refine sd_entry (plainFor_of_name rfl) rfl (Nat.le_of_ble_eq_true rfl) ?_
  show sd_J mX3_found ((l, G), (1, 20), [.ref a0], (sd_oI ρ, h2), cT) 0 [(0, .ref a0)] [] h cT
  unfold fX3_found at hf
  refine sj_iconst (v := 0) dX3_found_0 (by decide) ?_
  refine sj_istore_n [(1, .int 0), (0, .ref a0)] dX3_found_1 (by decide) rfl ?_
  refine sj_iconst (v := 0) dX3_found_2 (by decide) ?_
  refine sj_istore_n [(2, .int 0), (1, .int 0), (0, .ref a0)] dX3_found_3 (by decide) rfl ?_
  exact sj_loc [2, 1, 0] rfl (sX3_found_b4_loop l G a0 ρ h2 cT sd_FU (a0, 0, 0) _ _ hf)
/-! SofaDig$Sofa.sure()I -/
abbrev cX3_sure : ByteArray := prog_29_method_15_code
def yX3_sure : MethodName := ⟨RX3, "sure", "()I"⟩
def dkwX3_sure_1 : List UInt8 := [160, 0, 7, 4, 167, 0, 4, 3, 96, 60, 132, 2, 1, 167, 255, 224, 27, 172]
abbrev dktX3_sure_1 : List UInt8 := dkwX3_sure_1 ++ []
def dkwX3_sure_0 : List UInt8 := [3, 60, 3, 61, 28, 42, 180, 0, 28, 182, 0, 54, 162, 0, 27, 27, 42, 180, 0, 34, 28, 46, 4]
abbrev dktX3_sure_0 : List UInt8 := dkwX3_sure_0 ++ dktX3_sure_1
theorem dksX3_sure_0 : cX3_sure.data.toList.drop 0 = dktX3_sure_0 := by decide +kernel
theorem dksX3_sure_1 : cX3_sure.data.toList.drop 23 = dktX3_sure_1 := dk_seg dksX3_sure_0 23 rfl rfl
theorem dX3_sure_0 : decode cX3_sure 0 = .ok (.iconst 0, 1) := dk_3 (dk_at dksX3_sure_0 0 rfl rfl)
theorem dX3_sure_1 : decode cX3_sure 1 = .ok (.istore_n 1, 1) := dk_60 (dk_at dksX3_sure_0 1 rfl rfl)
theorem dX3_sure_2 : decode cX3_sure 2 = .ok (.iconst 0, 1) := dk_3 (dk_at dksX3_sure_0 2 rfl rfl)
theorem dX3_sure_3 : decode cX3_sure 3 = .ok (.istore_n 2, 1) := dk_61 (dk_at dksX3_sure_0 3 rfl rfl)
theorem dX3_sure_4 : decode cX3_sure 4 = .ok (.iload_n 2, 1) := dk_28 (dk_at dksX3_sure_0 4 rfl rfl)
theorem dX3_sure_5 : decode cX3_sure 5 = .ok (.aload_n 0, 1) := dk_42 (dk_at dksX3_sure_0 5 rfl rfl)
theorem dX3_sure_6 : decode cX3_sure 6 = .ok (.getfield 28, 3) := dk_180 0 28 (dk_at dksX3_sure_0 6 rfl rfl)
theorem dX3_sure_9 : decode cX3_sure 9 = .ok (.invokevirtual 54, 3) := dk_182 0 54 (dk_at dksX3_sure_0 9 rfl rfl)
theorem dX3_sure_12 : decode cX3_sure 12 = .ok (.if_icmp .ge 27, 3) := dk_162 0 27 (dk_at dksX3_sure_0 12 rfl rfl)
theorem dX3_sure_15 : decode cX3_sure 15 = .ok (.iload_n 1, 1) := dk_27 (dk_at dksX3_sure_0 15 rfl rfl)
theorem dX3_sure_16 : decode cX3_sure 16 = .ok (.aload_n 0, 1) := dk_42 (dk_at dksX3_sure_0 16 rfl rfl)
theorem dX3_sure_17 : decode cX3_sure 17 = .ok (.getfield 34, 3) := dk_180 0 34 (dk_at dksX3_sure_0 17 rfl rfl)
theorem dX3_sure_20 : decode cX3_sure 20 = .ok (.iload_n 2, 1) := dk_28 (dk_at dksX3_sure_0 20 rfl rfl)
theorem dX3_sure_21 : decode cX3_sure 21 = .ok (.iaload, 1) := dk_46 (dk_at dksX3_sure_0 21 rfl rfl)
theorem dX3_sure_22 : decode cX3_sure 22 = .ok (.iconst 1, 1) := dk_4 (dk_at dksX3_sure_0 22 rfl rfl)
theorem dX3_sure_23 : decode cX3_sure 23 = .ok (.if_icmp .ne 7, 3) := dk_160 0 7 (dk_at dksX3_sure_1 0 rfl rfl)
theorem dX3_sure_26 : decode cX3_sure 26 = .ok (.iconst 1, 1) := dk_4 (dk_at dksX3_sure_1 3 rfl rfl)
theorem dX3_sure_27 : decode cX3_sure 27 = .ok (.goto 4, 3) := dk_167 0 4 (dk_at dksX3_sure_1 4 rfl rfl)
theorem dX3_sure_30 : decode cX3_sure 30 = .ok (.iconst 0, 1) := dk_3 (dk_at dksX3_sure_1 7 rfl rfl)
theorem dX3_sure_31 : decode cX3_sure 31 = .ok (.iadd, 1) := dk_96 (dk_at dksX3_sure_1 8 rfl rfl)
theorem dX3_sure_32 : decode cX3_sure 32 = .ok (.istore_n 1, 1) := dk_60 (dk_at dksX3_sure_1 9 rfl rfl)
theorem dX3_sure_33 : decode cX3_sure 33 = .ok (.iinc 2 1, 3) := dk_132 2 1 (dk_at dksX3_sure_1 10 rfl rfl)
theorem dX3_sure_36 : decode cX3_sure 36 = .ok (.goto (-32), 3) := dk_167 255 224 (dk_at dksX3_sure_1 13 rfl rfl)
theorem dX3_sure_39 : decode cX3_sure 39 = .ok (.iload_n 1, 1) := dk_27 (dk_at dksX3_sure_1 16 rfl rfl)
theorem dX3_sure_40 : decode cX3_sure 40 = .ok (.ireturn, 1) := dk_172 (dk_at dksX3_sure_1 17 rfl rfl)
abbrev mX3_sure : sd_Y := (yX3_sure, cX3_sure, 3, some (.int), none)
def fX3_sure_b4 (G : sd_G) (k4 : Nat × Int32 × Int32 → sd_M Int32) (w0 : Nat) (w1 : Int32) (w2 : Int32) : sd_M Int32 :=
  sd_bnd (sd_getR G 2 4 w0) fun v1 =>
  sd_bnd (sd_isC G 41 v1) fun _ =>
  sd_bnd (fJ2_size G v1) fun r2 =>
  if r2 ≤ w2 then (
    sd_ret w1)
  else (
    sd_bnd (sd_getR G 2 6 w0) fun v3 =>
    sd_bnd (sd_aldI G 0 v3 w2) fun v4 =>
    if v4 = 1 then (
      sd_bnd (sd_ret (w1 + 1)) fun x7 =>
      sd_bnd (sd_ret (w2 + 1)) fun x8 =>
      k4 (w0, x7, x8))
    else (
      sd_bnd (sd_ret (w1 + 0)) fun x5 =>
      sd_bnd (sd_ret (w2 + 1)) fun x6 =>
      k4 (w0, x5, x6)))
set_option maxHeartbeats 4000000 in
theorem sX3_sure_b4 (l : Launch) (G : sd_G) (a0 : Nat) (ρ : Int32) (h2 : sd_H) (cT : Nat × Nat) (k4 : Nat × Int32 × Int32 → sd_M Int32) (Hk4 : ∀ (q : Nat × Int32 × Int32) (h : sd_H) (c : Nat × Nat), k4 q h = some (ρ, c, h2) → sd_J mX3_sure ((l, G), (1, 20), [.ref a0], (sd_oI ρ, h2), cT) 4 [(0, .ref q.1), (1, .int q.2.1), (2, .int q.2.2)] [] h c) (w0 : Nat) (w1 : Int32) (w2 : Int32) (h : sd_H) (c : Nat × Nat) (hf : fX3_sure_b4 G k4 w0 w1 w2 h = some (ρ, c, h2)) : sd_J mX3_sure ((l, G), (1, 20), [.ref a0], (sd_oI ρ, h2), cT) 4 [(0, .ref w0), (1, .int w1), (2, .int w2)] [] h c := by
  unfold fX3_sure_b4 at hf
  refine sj_iload_n 2 dX3_sure_4 rfl ?_
  refine sj_aload_n 0 dX3_sure_5 rfl ?_
  refine sj_getR fdX3_28_2 hf dX3_sure_6 (fun v1 hf => ?_)
  obtain ⟨fs9, he9, hf⟩ := sd_isC_some hf
  refine sj_cI (rest := [.int w2]) (fun _ _ _ e => sj_runV (n := 0) (As := []) (rest := [.int w2]) (sJ2_size l G v1 h _ _ _ e) he9 rfl rfl rfl rfl q2129 q490 q491 q121 q492 (by decide +kernel) rfl rfl ⟨Nat.le_of_ble_eq_true rfl, Nat.le_of_ble_eq_true rfl⟩ rfl (Nat.le_of_ble_eq_true rfl) dX3_sure_9) hf (fun r2 h c hf => ?_)
  refine sj_icge 39 hf dX3_sure_12 (by decide) (fun g12 hf => ?_) (fun g12 hf => ?_)
  · refine sj_iload_n 1 dX3_sure_39 rfl ?_
    exact sj_iret (o := sd_oI) hf rfl rfl rfl dX3_sure_40
  · refine sj_iload_n 1 dX3_sure_15 rfl ?_
    refine sj_aload_n 0 dX3_sure_16 rfl ?_
    refine sj_getR fdX3_34_2 hf dX3_sure_17 (fun v3 hf => ?_)
    refine sj_iload_n 2 dX3_sure_20 rfl ?_
    refine sj_iald hf dX3_sure_21 (fun v4 hf => ?_)
    refine sj_iconst (v := 1) dX3_sure_22 (by decide) ?_
    refine sj_icne 30 hf dX3_sure_23 (by decide) (fun g23 hf => ?_) (fun g23 hf => ?_)
    · refine sj_iconst (v := 0) dX3_sure_30 (by decide) ?_
      refine sj_iadd dX3_sure_31 ?_
      refine sj_nameI hf (fun x5 hf => ?_)
      refine sj_istore_n [(1, .int x5), (0, .ref w0), (2, .int w2)] dX3_sure_32 (by decide) rfl ?_
      refine sj_iincN 2 (fun x6 => [(2, .int x6), (1, .int x5), (0, .ref w0)]) 1 hf dX3_sure_33 rfl (by decide) (by decide) (fun _ => rfl) (fun x6 hf => ?_)
      refine sj_goto 4 dX3_sure_36 (by decide) ?_
      exact sj_loc [2, 1, 0] rfl (Hk4 (w0, x5, x6) _ _ hf)
    · refine sj_iconst (v := 1) dX3_sure_26 (by decide) ?_
      refine sj_goto 31 dX3_sure_27 (by decide) ?_
      refine sj_iadd dX3_sure_31 ?_
      refine sj_nameI hf (fun x7 hf => ?_)
      refine sj_istore_n [(1, .int x7), (0, .ref w0), (2, .int w2)] dX3_sure_32 (by decide) rfl ?_
      refine sj_iincN 2 (fun x8 => [(2, .int x8), (1, .int x7), (0, .ref w0)]) 1 hf dX3_sure_33 rfl (by decide) (by decide) (fun _ => rfl) (fun x8 hf => ?_)
      refine sj_goto 4 dX3_sure_36 (by decide) ?_
      exact sj_loc [2, 1, 0] rfl (Hk4 (w0, x7, x8) _ _ hf)
theorem sX3_sure_b4_loop (l : Launch) (G : sd_G) (a0 : Nat) (ρ : Int32) (h2 : sd_H) (cT : Nat × Nat) (n : Nat) : ∀ (q : Nat × Int32 × Int32) (h : sd_H) (c : Nat × Nat), sd_loop (fun k s => fX3_sure_b4 G k s.1 s.2.1 s.2.2) n q h = some (ρ, c, h2) → sd_J mX3_sure ((l, G), (1, 20), [.ref a0], (sd_oI ρ, h2), cT) 4 [(0, .ref q.1), (1, .int q.2.1), (2, .int q.2.2)] [] h c := by
  induction n with
  | zero => intro q h c hf; cases hf
  | succ n ih => intro q h c hf; exact sX3_sure_b4 l G a0 ρ h2 cT _ ih _ _ _ _ _ hf
def fX3_sure (G : sd_G) (a0 : Nat) : sd_M Int32 :=
  sd_loop (fun k s => fX3_sure_b4 G k s.1 s.2.1 s.2.2) sd_FU (a0, 0, 0)
set_option maxHeartbeats 4000000 in
theorem sX3_sure (l : Launch) (G : sd_G) (a0 : Nat) (h : sd_H) (ρ : Int32) (cT : Nat × Nat) (h2 : sd_H) (hf : fX3_sure G a0 h = some (ρ, cT, h2)) : sd_Met mX3_sure ((l, G), (1, 20), [.ref a0], (sd_oI ρ, h2), cT) h := by
  refine sd_entry (plainFor_of_name rfl) rfl (Nat.le_of_ble_eq_true rfl) ?_
  show sd_J mX3_sure ((l, G), (1, 20), [.ref a0], (sd_oI ρ, h2), cT) 0 [(0, .ref a0)] [] h cT
  unfold fX3_sure at hf
  refine sj_iconst (v := 0) dX3_sure_0 (by decide) ?_
  refine sj_istore_n [(1, .int 0), (0, .ref a0)] dX3_sure_1 (by decide) rfl ?_
  refine sj_iconst (v := 0) dX3_sure_2 (by decide) ?_
  refine sj_istore_n [(2, .int 0), (1, .int 0), (0, .ref a0)] dX3_sure_3 (by decide) rfl ?_
  exact sj_loc [2, 1, 0] rfl (sX3_sure_b4_loop l G a0 ρ h2 cT sd_FU (a0, 0, 0) _ _ hf)
/-! SofaDig$Sofa.isPropped(I)Z -/
abbrev cX3_isPropped : ByteArray := prog_29_method_6_code
def yX3_isPropped : MethodName := ⟨RX3, "isPropped", "(I)Z"⟩
def dkwX3_isPropped_0 : List UInt8 := [42, 180, 0, 68, 27, 122, 4, 126, 4, 160, 0, 7, 4, 167, 0, 4, 3, 172]
abbrev dktX3_isPropped_0 : List UInt8 := dkwX3_isPropped_0 ++ []
theorem dksX3_isPropped_0 : cX3_isPropped.data.toList.drop 0 = dktX3_isPropped_0 := by decide +kernel
theorem dX3_isPropped_0 : decode cX3_isPropped 0 = .ok (.aload_n 0, 1) := dk_42 (dk_at dksX3_isPropped_0 0 rfl rfl)
theorem dX3_isPropped_1 : decode cX3_isPropped 1 = .ok (.getfield 68, 3) := dk_180 0 68 (dk_at dksX3_isPropped_0 1 rfl rfl)
theorem dX3_isPropped_4 : decode cX3_isPropped 4 = .ok (.iload_n 1, 1) := dk_27 (dk_at dksX3_isPropped_0 4 rfl rfl)
theorem dX3_isPropped_5 : decode cX3_isPropped 5 = .ok (.ishr, 1) := dk_122 (dk_at dksX3_isPropped_0 5 rfl rfl)
theorem dX3_isPropped_6 : decode cX3_isPropped 6 = .ok (.iconst 1, 1) := dk_4 (dk_at dksX3_isPropped_0 6 rfl rfl)
theorem dX3_isPropped_7 : decode cX3_isPropped 7 = .ok (.iand, 1) := dk_126 (dk_at dksX3_isPropped_0 7 rfl rfl)
theorem dX3_isPropped_8 : decode cX3_isPropped 8 = .ok (.iconst 1, 1) := dk_4 (dk_at dksX3_isPropped_0 8 rfl rfl)
theorem dX3_isPropped_9 : decode cX3_isPropped 9 = .ok (.if_icmp .ne 7, 3) := dk_160 0 7 (dk_at dksX3_isPropped_0 9 rfl rfl)
theorem dX3_isPropped_12 : decode cX3_isPropped 12 = .ok (.iconst 1, 1) := dk_4 (dk_at dksX3_isPropped_0 12 rfl rfl)
theorem dX3_isPropped_13 : decode cX3_isPropped 13 = .ok (.goto 4, 3) := dk_167 0 4 (dk_at dksX3_isPropped_0 13 rfl rfl)
theorem dX3_isPropped_16 : decode cX3_isPropped 16 = .ok (.iconst 0, 1) := dk_3 (dk_at dksX3_isPropped_0 16 rfl rfl)
theorem dX3_isPropped_17 : decode cX3_isPropped 17 = .ok (.ireturn, 1) := dk_172 (dk_at dksX3_isPropped_0 17 rfl rfl)
theorem fdX3_68_2 : sd_Fd "SofaDig$Sofa" 68 2 7 := ⟨(RX3, TX3, 12), "SofaDig$Sofa", rfl, by decide, rfl, in_X3, Or.inl rfl, Or.inl q264⟩
abbrev mX3_isPropped : sd_Y := (yX3_isPropped, cX3_isPropped, 2, some (.boolean), none)
def fX3_isPropped (G : sd_G) (a0 : Nat) (a1 : Int32) : sd_M Int32 :=
  sd_bnd (sd_getI G 2 7 a0) fun v1 =>
  if ((v1 >>> (a1 &&& 31)) &&& 1) = 1 then (
    sd_ret 1)
  else (
    sd_ret 0)
set_option maxHeartbeats 4000000 in
theorem sX3_isPropped (l : Launch) (G : sd_G) (a0 : Nat) (a1 : Int32) (h : sd_H) (ρ : Int32) (cT : Nat × Nat) (h2 : sd_H) (hf : fX3_isPropped G a0 a1 h = some (ρ, cT, h2)) : sd_Met mX3_isPropped ((l, G), (0, 0), [.ref a0, .int a1], (sd_oI ρ, h2), cT) h := by
  refine sd_entry (plainFor_of_name rfl) rfl (Nat.le_of_ble_eq_true rfl) ?_
  show sd_J mX3_isPropped ((l, G), (0, 0), [.ref a0, .int a1], (sd_oI ρ, h2), cT) 0 [(0, .ref a0), (1, .int a1)] [] h cT
  unfold fX3_isPropped at hf
  refine sj_aload_n 0 dX3_isPropped_0 rfl ?_
  refine sj_getI fdX3_68_2 hf dX3_isPropped_1 (fun v1 hf => ?_)
  refine sj_iload_n 1 dX3_isPropped_4 rfl ?_
  refine sj_ishr dX3_isPropped_5 ?_
  refine sj_iconst (v := 1) dX3_isPropped_6 (by decide) ?_
  refine sj_iand dX3_isPropped_7 ?_
  refine sj_iconst (v := 1) dX3_isPropped_8 (by decide) ?_
  refine sj_icne 16 hf dX3_isPropped_9 (by decide) (fun g9 hf => ?_) (fun g9 hf => ?_)
  · refine sj_iconst (v := 0) dX3_isPropped_16 (by decide) ?_
    exact sj_zretC (o := sd_oI) (ty := .boolean) rfl hf rfl rfl rfl dX3_isPropped_17
  · refine sj_iconst (v := 1) dX3_isPropped_12 (by decide) ?_
    refine sj_goto 17 dX3_isPropped_13 (by decide) ?_
    exact sj_zretC (o := sd_oI) (ty := .boolean) rfl hf rfl rfl rfl dX3_isPropped_17
/-! SofaDig$Sofa.props()I -/
abbrev cX3_props : ByteArray := prog_29_method_7_code
def yX3_props : MethodName := ⟨RX3, "props", "()I"⟩
def dkwX3_props_1 : List UInt8 := [167, 0, 4, 3, 96, 60, 132, 2, 1, 167, 255, 229, 27, 172]
abbrev dktX3_props_1 : List UInt8 := dkwX3_props_1 ++ []
def dkwX3_props_0 : List UInt8 := [3, 60, 3, 61, 28, 42, 180, 0, 15, 162, 0, 25, 27, 42, 28, 182, 0, 71, 153, 0, 7, 4]
abbrev dktX3_props_0 : List UInt8 := dkwX3_props_0 ++ dktX3_props_1
theorem dksX3_props_0 : cX3_props.data.toList.drop 0 = dktX3_props_0 := by decide +kernel
theorem dksX3_props_1 : cX3_props.data.toList.drop 22 = dktX3_props_1 := dk_seg dksX3_props_0 22 rfl rfl
theorem dX3_props_0 : decode cX3_props 0 = .ok (.iconst 0, 1) := dk_3 (dk_at dksX3_props_0 0 rfl rfl)
theorem dX3_props_1 : decode cX3_props 1 = .ok (.istore_n 1, 1) := dk_60 (dk_at dksX3_props_0 1 rfl rfl)
theorem dX3_props_2 : decode cX3_props 2 = .ok (.iconst 0, 1) := dk_3 (dk_at dksX3_props_0 2 rfl rfl)
theorem dX3_props_3 : decode cX3_props 3 = .ok (.istore_n 2, 1) := dk_61 (dk_at dksX3_props_0 3 rfl rfl)
theorem dX3_props_4 : decode cX3_props 4 = .ok (.iload_n 2, 1) := dk_28 (dk_at dksX3_props_0 4 rfl rfl)
theorem dX3_props_5 : decode cX3_props 5 = .ok (.aload_n 0, 1) := dk_42 (dk_at dksX3_props_0 5 rfl rfl)
theorem dX3_props_6 : decode cX3_props 6 = .ok (.getfield 15, 3) := dk_180 0 15 (dk_at dksX3_props_0 6 rfl rfl)
theorem dX3_props_9 : decode cX3_props 9 = .ok (.if_icmp .ge 25, 3) := dk_162 0 25 (dk_at dksX3_props_0 9 rfl rfl)
theorem dX3_props_12 : decode cX3_props 12 = .ok (.iload_n 1, 1) := dk_27 (dk_at dksX3_props_0 12 rfl rfl)
theorem dX3_props_13 : decode cX3_props 13 = .ok (.aload_n 0, 1) := dk_42 (dk_at dksX3_props_0 13 rfl rfl)
theorem dX3_props_14 : decode cX3_props 14 = .ok (.iload_n 2, 1) := dk_28 (dk_at dksX3_props_0 14 rfl rfl)
theorem dX3_props_15 : decode cX3_props 15 = .ok (.invokevirtual 71, 3) := dk_182 0 71 (dk_at dksX3_props_0 15 rfl rfl)
theorem dX3_props_18 : decode cX3_props 18 = .ok (.ifCond .eq 7, 3) := dk_153 0 7 (dk_at dksX3_props_0 18 rfl rfl)
theorem dX3_props_21 : decode cX3_props 21 = .ok (.iconst 1, 1) := dk_4 (dk_at dksX3_props_0 21 rfl rfl)
theorem dX3_props_22 : decode cX3_props 22 = .ok (.goto 4, 3) := dk_167 0 4 (dk_at dksX3_props_1 0 rfl rfl)
theorem dX3_props_25 : decode cX3_props 25 = .ok (.iconst 0, 1) := dk_3 (dk_at dksX3_props_1 3 rfl rfl)
theorem dX3_props_26 : decode cX3_props 26 = .ok (.iadd, 1) := dk_96 (dk_at dksX3_props_1 4 rfl rfl)
theorem dX3_props_27 : decode cX3_props 27 = .ok (.istore_n 1, 1) := dk_60 (dk_at dksX3_props_1 5 rfl rfl)
theorem dX3_props_28 : decode cX3_props 28 = .ok (.iinc 2 1, 3) := dk_132 2 1 (dk_at dksX3_props_1 6 rfl rfl)
theorem dX3_props_31 : decode cX3_props 31 = .ok (.goto (-27), 3) := dk_167 255 229 (dk_at dksX3_props_1 9 rfl rfl)
theorem dX3_props_34 : decode cX3_props 34 = .ok (.iload_n 1, 1) := dk_27 (dk_at dksX3_props_1 12 rfl rfl)
theorem dX3_props_35 : decode cX3_props 35 = .ok (.ireturn, 1) := dk_172 (dk_at dksX3_props_1 13 rfl rfl)
abbrev mX3_props : sd_Y := (yX3_props, cX3_props, 3, some (.int), none)
def fX3_props_b4 (G : sd_G) (k4 : Nat × Int32 × Int32 → sd_M Int32) (w0 : Nat) (w1 : Int32) (w2 : Int32) : sd_M Int32 :=
  sd_bnd (sd_getI G 2 1 w0) fun v1 =>
  if v1 ≤ w2 then (
    sd_ret w1)
  else (
    sd_bnd (sd_isC G 2 w0) fun _ =>
    sd_bnd (fX3_isPropped G w0 w2) fun r2 =>
    if r2 = 0 then (
      sd_bnd (sd_ret (w1 + 0)) fun x3 =>
      sd_bnd (sd_ret (w2 + 1)) fun x4 =>
      k4 (w0, x3, x4))
    else (
      sd_bnd (sd_ret (w1 + 1)) fun x5 =>
      sd_bnd (sd_ret (w2 + 1)) fun x6 =>
      k4 (w0, x5, x6)))
set_option maxHeartbeats 4000000 in
theorem sX3_props_b4 (l : Launch) (G : sd_G) (a0 : Nat) (ρ : Int32) (h2 : sd_H) (cT : Nat × Nat) (k4 : Nat × Int32 × Int32 → sd_M Int32) (Hk4 : ∀ (q : Nat × Int32 × Int32) (h : sd_H) (c : Nat × Nat), k4 q h = some (ρ, c, h2) → sd_J mX3_props ((l, G), (1, 21), [.ref a0], (sd_oI ρ, h2), cT) 4 [(0, .ref q.1), (1, .int q.2.1), (2, .int q.2.2)] [] h c) (w0 : Nat) (w1 : Int32) (w2 : Int32) (h : sd_H) (c : Nat × Nat) (hf : fX3_props_b4 G k4 w0 w1 w2 h = some (ρ, c, h2)) : sd_J mX3_props ((l, G), (1, 21), [.ref a0], (sd_oI ρ, h2), cT) 4 [(0, .ref w0), (1, .int w1), (2, .int w2)] [] h c := by
  unfold fX3_props_b4 at hf
  refine sj_iload_n 2 dX3_props_4 rfl ?_
  refine sj_aload_n 0 dX3_props_5 rfl ?_
  refine sj_getI fdX3_15_2 hf dX3_props_6 (fun v1 hf => ?_)
  refine sj_icge 34 hf dX3_props_9 (by decide) (fun g9 hf => ?_) (fun g9 hf => ?_)
  · refine sj_iload_n 1 dX3_props_34 rfl ?_
    exact sj_iret (o := sd_oI) hf rfl rfl rfl dX3_props_35
  · refine sj_iload_n 1 dX3_props_12 rfl ?_
    refine sj_aload_n 0 dX3_props_13 rfl ?_
    refine sj_iload_n 2 dX3_props_14 rfl ?_
    obtain ⟨fs15, he15, hf⟩ := sd_isC_some hf
    refine sj_cI (rest := [.int w1]) (fun _ _ _ e => sj_runV (n := 1) (As := [.int w2]) (rest := [.int w1]) (sX3_isPropped l G w0 w2 h _ _ _ e) he15 rfl rfl rfl rfl q2146 q2147 q2148 q118 q2149 (by decide +kernel) rfl rfl ⟨Nat.le_of_ble_eq_true rfl, Nat.le_of_ble_eq_true rfl⟩ rfl (Nat.le_of_ble_eq_true rfl) dX3_props_15) hf (fun r2 h c hf => ?_)
    refine sj_ifeq 25 hf dX3_props_18 (by decide) (fun g18 hf => ?_) (fun g18 hf => ?_)
    · refine sj_iconst (v := 0) dX3_props_25 (by decide) ?_
      refine sj_iadd dX3_props_26 ?_
      refine sj_nameI hf (fun x3 hf => ?_)
      refine sj_istore_n [(1, .int x3), (0, .ref w0), (2, .int w2)] dX3_props_27 (by decide) rfl ?_
      refine sj_iincN 2 (fun x4 => [(2, .int x4), (1, .int x3), (0, .ref w0)]) 1 hf dX3_props_28 rfl (by decide) (by decide) (fun _ => rfl) (fun x4 hf => ?_)
      refine sj_goto 4 dX3_props_31 (by decide) ?_
      exact sj_loc [2, 1, 0] rfl (Hk4 (w0, x3, x4) _ _ hf)
    · refine sj_iconst (v := 1) dX3_props_21 (by decide) ?_
      refine sj_goto 26 dX3_props_22 (by decide) ?_
      refine sj_iadd dX3_props_26 ?_
      refine sj_nameI hf (fun x5 hf => ?_)
      refine sj_istore_n [(1, .int x5), (0, .ref w0), (2, .int w2)] dX3_props_27 (by decide) rfl ?_
      refine sj_iincN 2 (fun x6 => [(2, .int x6), (1, .int x5), (0, .ref w0)]) 1 hf dX3_props_28 rfl (by decide) (by decide) (fun _ => rfl) (fun x6 hf => ?_)
      refine sj_goto 4 dX3_props_31 (by decide) ?_
      exact sj_loc [2, 1, 0] rfl (Hk4 (w0, x5, x6) _ _ hf)
theorem sX3_props_b4_loop (l : Launch) (G : sd_G) (a0 : Nat) (ρ : Int32) (h2 : sd_H) (cT : Nat × Nat) (n : Nat) : ∀ (q : Nat × Int32 × Int32) (h : sd_H) (c : Nat × Nat), sd_loop (fun k s => fX3_props_b4 G k s.1 s.2.1 s.2.2) n q h = some (ρ, c, h2) → sd_J mX3_props ((l, G), (1, 21), [.ref a0], (sd_oI ρ, h2), cT) 4 [(0, .ref q.1), (1, .int q.2.1), (2, .int q.2.2)] [] h c := by
  induction n with
  | zero => intro q h c hf; cases hf
  | succ n ih => intro q h c hf; exact sX3_props_b4 l G a0 ρ h2 cT _ ih _ _ _ _ _ hf
def fX3_props (G : sd_G) (a0 : Nat) : sd_M Int32 :=
  sd_loop (fun k s => fX3_props_b4 G k s.1 s.2.1 s.2.2) sd_FU (a0, 0, 0)
set_option maxHeartbeats 4000000 in
theorem sX3_props (l : Launch) (G : sd_G) (a0 : Nat) (h : sd_H) (ρ : Int32) (cT : Nat × Nat) (h2 : sd_H) (hf : fX3_props G a0 h = some (ρ, cT, h2)) : sd_Met mX3_props ((l, G), (1, 21), [.ref a0], (sd_oI ρ, h2), cT) h := by
  refine sd_entry (plainFor_of_name rfl) rfl (Nat.le_of_ble_eq_true rfl) ?_
  show sd_J mX3_props ((l, G), (1, 21), [.ref a0], (sd_oI ρ, h2), cT) 0 [(0, .ref a0)] [] h cT
  unfold fX3_props at hf
  refine sj_iconst (v := 0) dX3_props_0 (by decide) ?_
  refine sj_istore_n [(1, .int 0), (0, .ref a0)] dX3_props_1 (by decide) rfl ?_
  refine sj_iconst (v := 0) dX3_props_2 (by decide) ?_
  refine sj_istore_n [(2, .int 0), (1, .int 0), (0, .ref a0)] dX3_props_3 (by decide) rfl ?_
  exact sj_loc [2, 1, 0] rfl (sX3_props_b4_loop l G a0 ρ h2 cT sd_FU (a0, 0, 0) _ _ hf)
/-! SofaDig$Sofa.height(I)I -/
abbrev cX3_height : ByteArray := prog_29_method_3_code
def yX3_height : MethodName := ⟨RX3, "height", "(I)I"⟩
def dkwX3_height_0 : List UInt8 := [42, 180, 0, 21, 27, 182, 0, 50, 192, 0, 18, 182, 0, 54, 172]
abbrev dktX3_height_0 : List UInt8 := dkwX3_height_0 ++ []
theorem dksX3_height_0 : cX3_height.data.toList.drop 0 = dktX3_height_0 := by decide +kernel
theorem dX3_height_0 : decode cX3_height 0 = .ok (.aload_n 0, 1) := dk_42 (dk_at dksX3_height_0 0 rfl rfl)
theorem dX3_height_1 : decode cX3_height 1 = .ok (.getfield 21, 3) := dk_180 0 21 (dk_at dksX3_height_0 1 rfl rfl)
theorem dX3_height_4 : decode cX3_height 4 = .ok (.iload_n 1, 1) := dk_27 (dk_at dksX3_height_0 4 rfl rfl)
theorem dX3_height_5 : decode cX3_height 5 = .ok (.invokevirtual 50, 3) := dk_182 0 50 (dk_at dksX3_height_0 5 rfl rfl)
theorem dX3_height_8 : decode cX3_height 8 = .ok (.checkcast 18, 3) := dk_192 0 18 (dk_at dksX3_height_0 8 rfl rfl)
theorem dX3_height_11 : decode cX3_height 11 = .ok (.invokevirtual 54, 3) := dk_182 0 54 (dk_at dksX3_height_0 11 rfl rfl)
theorem dX3_height_14 : decode cX3_height 14 = .ok (.ireturn, 1) := dk_172 (dk_at dksX3_height_0 14 rfl rfl)
theorem fc_java_util_ArrayList : sd_Fc [41] "java/util/ArrayList" := fun ci r hm hc => by
  simp only [List.mem_cons, List.not_mem_nil, or_false] at hm
  rcases hm with rfl
  · cases hc; exact Or.inl rfl
abbrev mX3_height : sd_Y := (yX3_height, cX3_height, 2, some (.int), none)
def fX3_height (G : sd_G) (a0 : Nat) (a1 : Int32) : sd_M Int32 :=
  sd_bnd (sd_getR G 2 2 a0) fun v1 =>
  sd_bnd (sd_isC G 41 v1) fun _ =>
  sd_bnd (fJ2_get G v1 a1) fun r2 =>
  sd_bnd (sd_cast G [41] r2) fun _ =>
  sd_bnd (sd_isC G 41 r2) fun _ =>
  sd_bnd (fJ2_size G r2) fun r3 =>
  sd_ret r3
set_option maxHeartbeats 4000000 in
theorem sX3_height (l : Launch) (G : sd_G) (a0 : Nat) (a1 : Int32) (h : sd_H) (ρ : Int32) (cT : Nat × Nat) (h2 : sd_H) (hf : fX3_height G a0 a1 h = some (ρ, cT, h2)) : sd_Met mX3_height ((l, G), (3, 64), [.ref a0, .int a1], (sd_oI ρ, h2), cT) h := by
  refine sd_entry (plainFor_of_name rfl) rfl (Nat.le_of_ble_eq_true rfl) ?_
  show sd_J mX3_height ((l, G), (3, 64), [.ref a0, .int a1], (sd_oI ρ, h2), cT) 0 [(0, .ref a0), (1, .int a1)] [] h cT
  unfold fX3_height at hf
  refine sj_aload_n 0 dX3_height_0 rfl ?_
  refine sj_getR fdX3_21_2 hf dX3_height_1 (fun v1 hf => ?_)
  refine sj_iload_n 1 dX3_height_4 rfl ?_
  obtain ⟨fs5, he5, hf⟩ := sd_isC_some hf
  refine sj_cR (rest := []) (fun _ _ _ e => sj_runV (n := 1) (As := [.int a1]) (rest := []) (sJ2_get l G v1 a1 h _ _ _ e) he5 rfl rfl rfl rfl q2158 q1002 q3425 q121 q1004 (by decide +kernel) rfl rfl ⟨Nat.le_of_ble_eq_true rfl, Nat.le_of_ble_eq_true rfl⟩ rfl (Nat.le_of_ble_eq_true rfl) dX3_height_5) hf (fun r2 h c hf => ?_)
  obtain ⟨ci8, fs8, he8, hm8, hf⟩ := sd_cast_some hf
  refine sj_cast he8 hm8 fc_java_util_ArrayList q212 dX3_height_8 ?_
  obtain ⟨fs11, he11, hf⟩ := sd_isC_some hf
  refine sj_cI (rest := []) (fun _ _ _ e => sj_runV (n := 0) (As := []) (rest := []) (sJ2_size l G r2 h _ _ _ e) he11 rfl rfl rfl rfl q2129 q490 q491 q121 q492 (by decide +kernel) rfl rfl ⟨Nat.le_of_ble_eq_true rfl, Nat.le_of_ble_eq_true rfl⟩ rfl (Nat.le_of_ble_eq_true rfl) dX3_height_11) hf (fun r3 h c hf => ?_)
  exact sj_iret (o := sd_oI) hf rfl rfl rfl dX3_height_14
/-! SofaDig$Cushion.copy()LSofaDig$Cushion; -/
abbrev cX4_copy : ByteArray := prog_8_method_2_code
def yX4_copy : MethodName := ⟨RX4, "copy", "()LSofaDig$Cushion;"⟩
def dkwX4_copy_1 : List UInt8 := [180, 0, 21, 181, 0, 21, 43, 42, 180, 0, 25, 181, 0, 25, 43, 176]
abbrev dktX4_copy_1 : List UInt8 := dkwX4_copy_1 ++ []
def dkwX4_copy_0 : List UInt8 := [187, 0, 10, 89, 42, 180, 0, 15, 183, 0, 18, 76, 43, 42, 180, 0, 9, 181, 0, 9, 43, 42]
abbrev dktX4_copy_0 : List UInt8 := dkwX4_copy_0 ++ dktX4_copy_1
theorem dksX4_copy_0 : cX4_copy.data.toList.drop 0 = dktX4_copy_0 := by decide +kernel
theorem dksX4_copy_1 : cX4_copy.data.toList.drop 22 = dktX4_copy_1 := dk_seg dksX4_copy_0 22 rfl rfl
theorem dX4_copy_0 : decode cX4_copy 0 = .ok (.new 10, 3) := dk_187 0 10 (dk_at dksX4_copy_0 0 rfl rfl)
theorem dX4_copy_3 : decode cX4_copy 3 = .ok (.dup, 1) := dk_89 (dk_at dksX4_copy_0 3 rfl rfl)
theorem dX4_copy_4 : decode cX4_copy 4 = .ok (.aload_n 0, 1) := dk_42 (dk_at dksX4_copy_0 4 rfl rfl)
theorem dX4_copy_5 : decode cX4_copy 5 = .ok (.getfield 15, 3) := dk_180 0 15 (dk_at dksX4_copy_0 5 rfl rfl)
theorem dX4_copy_8 : decode cX4_copy 8 = .ok (.invokespecial 18, 3) := dk_183 0 18 (dk_at dksX4_copy_0 8 rfl rfl)
theorem dX4_copy_11 : decode cX4_copy 11 = .ok (.astore_n 1, 1) := dk_76 (dk_at dksX4_copy_0 11 rfl rfl)
theorem dX4_copy_12 : decode cX4_copy 12 = .ok (.aload_n 1, 1) := dk_43 (dk_at dksX4_copy_0 12 rfl rfl)
theorem dX4_copy_13 : decode cX4_copy 13 = .ok (.aload_n 0, 1) := dk_42 (dk_at dksX4_copy_0 13 rfl rfl)
theorem dX4_copy_14 : decode cX4_copy 14 = .ok (.getfield 9, 3) := dk_180 0 9 (dk_at dksX4_copy_0 14 rfl rfl)
theorem dX4_copy_17 : decode cX4_copy 17 = .ok (.putfield 9, 3) := dk_181 0 9 (dk_at dksX4_copy_0 17 rfl rfl)
theorem dX4_copy_20 : decode cX4_copy 20 = .ok (.aload_n 1, 1) := dk_43 (dk_at dksX4_copy_0 20 rfl rfl)
theorem dX4_copy_21 : decode cX4_copy 21 = .ok (.aload_n 0, 1) := dk_42 (dk_at dksX4_copy_0 21 rfl rfl)
theorem dX4_copy_22 : decode cX4_copy 22 = .ok (.getfield 21, 3) := dk_180 0 21 (dk_at dksX4_copy_1 0 rfl rfl)
theorem dX4_copy_25 : decode cX4_copy 25 = .ok (.putfield 21, 3) := dk_181 0 21 (dk_at dksX4_copy_1 3 rfl rfl)
theorem dX4_copy_28 : decode cX4_copy 28 = .ok (.aload_n 1, 1) := dk_43 (dk_at dksX4_copy_1 6 rfl rfl)
theorem dX4_copy_29 : decode cX4_copy 29 = .ok (.aload_n 0, 1) := dk_42 (dk_at dksX4_copy_1 7 rfl rfl)
theorem dX4_copy_30 : decode cX4_copy 30 = .ok (.getfield 25, 3) := dk_180 0 25 (dk_at dksX4_copy_1 8 rfl rfl)
theorem dX4_copy_33 : decode cX4_copy 33 = .ok (.putfield 25, 3) := dk_181 0 25 (dk_at dksX4_copy_1 11 rfl rfl)
theorem dX4_copy_36 : decode cX4_copy 36 = .ok (.aload_n 1, 1) := dk_43 (dk_at dksX4_copy_1 14 rfl rfl)
theorem dX4_copy_37 : decode cX4_copy 37 = .ok (.areturn, 1) := dk_176 (dk_at dksX4_copy_1 15 rfl rfl)
theorem fnX4_10 : sd_Fn "SofaDig$Cushion" 10 3 4 [.int 0, .int 0, .int 0, .int 0] := ⟨(RX4, TX4, 4), tyX4, rfl, rfl, in_X4, q2217, q310, q122, tyX4_ok, fun j hj => by revert j; decide⟩
theorem fdX4_15_3 : sd_Fd "SofaDig$Cushion" 15 3 0 := ⟨(RX4, TX4, 4), "SofaDig$Cushion", rfl, by decide, rfl, in_X4, Or.inl rfl, Or.inl q315⟩
theorem fdX4_9_3 : sd_Fd "SofaDig$Cushion" 9 3 1 := ⟨(RX4, TX4, 4), "SofaDig$Cushion", rfl, by decide, rfl, in_X4, Or.inl rfl, Or.inl q318⟩
theorem fdX4_21_3 : sd_Fd "SofaDig$Cushion" 21 3 2 := ⟨(RX4, TX4, 4), "SofaDig$Cushion", rfl, by decide, rfl, in_X4, Or.inl rfl, Or.inl q321⟩
theorem fpX4_21_3 (n d : String) : sd_Fp ⟨"SofaDig$Cushion", n, d⟩ 21 3 2 .boolean := ⟨(RX4, TX4, 4), "SofaDig$Cushion", tyX4, rfl, by decide, rfl, in_X4, Or.inl rfl, tyX4_ok, nmX4, rfl, Or.inl ⟨rfl, Or.inl q321⟩⟩
theorem fdX4_25_3 : sd_Fd "SofaDig$Cushion" 25 3 3 := ⟨(RX4, TX4, 4), "SofaDig$Cushion", rfl, by decide, rfl, in_X4, Or.inl rfl, Or.inl q325⟩
theorem fpX4_25_3 (n d : String) : sd_Fp ⟨"SofaDig$Cushion", n, d⟩ 25 3 3 .boolean := ⟨(RX4, TX4, 4), "SofaDig$Cushion", tyX4, rfl, by decide, rfl, in_X4, Or.inl rfl, tyX4_ok, nmX4, rfl, Or.inl ⟨rfl, Or.inl q325⟩⟩
abbrev mX4_copy : sd_Y := (yX4_copy, cX4_copy, 2, some (.object "SofaDig$Cushion"), none)
def fX4_copy (G : sd_G) (a0 : Nat) : sd_M Nat :=
  sd_bnd (sd_new 3 4 [.int 0, .int 0, .int 0, .int 0]) fun o1 =>
  sd_bnd (sd_getI G 3 0 a0) fun v2 =>
  sd_bnd (fX4_init G o1 v2) fun _ =>
  sd_bnd (sd_getI G 3 1 a0) fun v3 =>
  sd_bnd (sd_put 3 1 .int o1 (.int v3)) fun _ =>
  sd_bnd (sd_getI G 3 2 a0) fun v4 =>
  sd_bnd (sd_put 3 2 .boolean o1 (.int v4)) fun _ =>
  sd_bnd (sd_getI G 3 3 a0) fun v5 =>
  sd_bnd (sd_put 3 3 .boolean o1 (.int v5)) fun _ =>
  sd_ret o1
set_option maxHeartbeats 4000000 in
theorem sX4_copy (l : Launch) (G : sd_G) (a0 : Nat) (h : sd_H) (ρ : Nat) (cT : Nat × Nat) (h2 : sd_H) (hf : fX4_copy G a0 h = some (ρ, cT, h2)) : sd_Met mX4_copy ((l, G), (2, 33), [.ref a0], (sd_oR ρ, h2), cT) h := by
  refine sd_entry (plainFor_of_name rfl) rfl (Nat.le_of_ble_eq_true rfl) ?_
  show sd_J mX4_copy ((l, G), (2, 33), [.ref a0], (sd_oR ρ, h2), cT) 0 [(0, .ref a0)] [] h cT
  unfold fX4_copy at hf
  refine sj_new fnX4_10 hf dX4_copy_0 (fun o1 h c hf => ?_)
  refine sj_dup dX4_copy_3 rfl ?_
  refine sj_aload_n 0 dX4_copy_4 rfl ?_
  refine sj_getI fdX4_15_3 hf dX4_copy_5 (fun v2 hf => ?_)
  refine sj_cV (rest := [.ref o1]) (fun _ _ _ e => sj_runI (n := 1) (a := o1) (As := [.int v2]) (rest := [.ref o1]) (sX4_init l G o1 v2 h _ _ _ e) rfl rfl q2218 q312 q122 q313 rfl (by decide +kernel) rfl rfl (fun _ z => by cases z) ⟨Nat.le_of_ble_eq_true rfl, Nat.le_of_ble_eq_true rfl⟩ rfl (Nat.le_of_ble_eq_true rfl) dX4_copy_8) hf (fun h c hf => ?_)
  refine sj_astore_n [(1, .ref o1), (0, .ref a0)] dX4_copy_11 (by decide) rfl ?_
  refine sj_aload_n 0 dX4_copy_12 rfl ?_
  refine sj_aload_n 1 dX4_copy_13 rfl ?_
  refine sj_getI fdX4_9_3 hf dX4_copy_14 (fun v3 hf => ?_)
  refine sj_put (fpX4_9_3 _ _) hf dX4_copy_17 (fun h hf => ?_)
  refine sj_aload_n 0 dX4_copy_20 rfl ?_
  refine sj_aload_n 1 dX4_copy_21 rfl ?_
  refine sj_getI fdX4_21_3 hf dX4_copy_22 (fun v4 hf => ?_)
  refine sj_put (fpX4_21_3 _ _) hf dX4_copy_25 (fun h hf => ?_)
  refine sj_aload_n 0 dX4_copy_28 rfl ?_
  refine sj_aload_n 1 dX4_copy_29 rfl ?_
  refine sj_getI fdX4_25_3 hf dX4_copy_30 (fun v5 hf => ?_)
  refine sj_put (fpX4_25_3 _ _) hf dX4_copy_33 (fun h hf => ?_)
  refine sj_aload_n 0 dX4_copy_36 rfl ?_
  exact sj_aret (o := sd_oR) hf rfl rfl rfl (Or.inl ⟨_, rfl⟩) dX4_copy_37
/-! SofaDig$Sofa.take(LSofaDig$Sofa;)LSofaDig$Sofa; -/
abbrev cX3_take : ByteArray := prog_29_method_23_code
def yX3_take : MethodName := ⟨RX3, "take", "(LSofaDig$Sofa;)LSofaDig$Sofa;"⟩
def dkwX3_take_9 : List UInt8 := [181, 0, 181, 42, 43, 180, 0, 88, 181, 0, 88, 42, 43, 180, 0, 108, 181, 0, 108, 42, 176]
abbrev dktX3_take_9 : List UInt8 := dkwX3_take_9 ++ []
def dkwX3_take_8 : List UInt8 := [184, 0, 195, 42, 43, 180, 0, 68, 181, 0, 68, 42, 43, 180, 0, 184, 181, 0, 184, 42, 43, 180, 0, 181]
abbrev dktX3_take_8 : List UInt8 := dkwX3_take_8 ++ dktX3_take_9
def dkwX3_take_7 : List UInt8 := [180, 0, 31, 43, 180, 0, 31, 182, 0, 191, 87, 43, 180, 0, 34, 3, 42, 180, 0, 34, 3, 16, 24]
abbrev dktX3_take_7 : List UInt8 := dkwX3_take_7 ++ dktX3_take_8
def dkwX3_take_6 : List UInt8 := [182, 0, 38, 42, 180, 0, 28, 43, 180, 0, 28, 182, 0, 191, 87, 42, 180, 0, 31, 182, 0, 38, 42]
abbrev dktX3_take_6 : List UInt8 := dkwX3_take_6 ++ dktX3_take_7
def dkwX3_take_5 : List UInt8 := [180, 0, 25, 182, 0, 38, 42, 180, 0, 25, 43, 180, 0, 25, 182, 0, 191, 87, 42, 180, 0, 28]
abbrev dktX3_take_5 : List UInt8 := dkwX3_take_5 ++ dktX3_take_6
def dkwX3_take_4 : List UInt8 := [182, 0, 187, 182, 0, 46, 87, 167, 255, 223, 42, 180, 0, 21, 25, 4, 182, 0, 46, 87, 167, 255, 176, 42]
abbrev dktX3_take_4 : List UInt8 := dkwX3_take_4 ++ dktX3_take_5
def dkwX3_take_3 : List UInt8 := [185, 0, 114, 1, 0, 153, 0, 29, 25, 5, 185, 0, 120, 1, 0, 192, 0, 41, 58, 6, 25, 4, 25, 6]
abbrev dktX3_take_3 : List UInt8 := dkwX3_take_3 ++ dktX3_take_4
def dkwX3_take_2 : List UInt8 := [192, 0, 18, 78, 187, 0, 18, 89, 183, 0, 20, 58, 4, 45, 182, 0, 110, 58, 5, 25, 5]
abbrev dktX3_take_2 : List UInt8 := dkwX3_take_2 ++ dktX3_take_3
def dkwX3_take_1 : List UInt8 := [180, 0, 21, 182, 0, 110, 77, 44, 185, 0, 114, 1, 0, 153, 0, 77, 44, 185, 0, 120, 1, 0]
abbrev dktX3_take_1 : List UInt8 := dkwX3_take_1 ++ dktX3_take_2
def dkwX3_take_0 : List UInt8 := [42, 43, 180, 0, 15, 181, 0, 15, 42, 43, 180, 0, 9, 181, 0, 9, 42, 180, 0, 21, 182, 0, 38, 43]
abbrev dktX3_take_0 : List UInt8 := dkwX3_take_0 ++ dktX3_take_1
theorem dksX3_take_0 : cX3_take.data.toList.drop 0 = dktX3_take_0 := by decide +kernel
theorem dksX3_take_1 : cX3_take.data.toList.drop 24 = dktX3_take_1 := dk_seg dksX3_take_0 24 rfl rfl
theorem dksX3_take_2 : cX3_take.data.toList.drop 46 = dktX3_take_2 := dk_seg dksX3_take_1 22 rfl rfl
theorem dksX3_take_3 : cX3_take.data.toList.drop 67 = dktX3_take_3 := dk_seg dksX3_take_2 21 rfl rfl
theorem dksX3_take_4 : cX3_take.data.toList.drop 91 = dktX3_take_4 := dk_seg dksX3_take_3 24 rfl rfl
theorem dksX3_take_5 : cX3_take.data.toList.drop 115 = dktX3_take_5 := dk_seg dksX3_take_4 24 rfl rfl
theorem dksX3_take_6 : cX3_take.data.toList.drop 137 = dktX3_take_6 := dk_seg dksX3_take_5 22 rfl rfl
theorem dksX3_take_7 : cX3_take.data.toList.drop 160 = dktX3_take_7 := dk_seg dksX3_take_6 23 rfl rfl
theorem dksX3_take_8 : cX3_take.data.toList.drop 183 = dktX3_take_8 := dk_seg dksX3_take_7 23 rfl rfl
theorem dksX3_take_9 : cX3_take.data.toList.drop 207 = dktX3_take_9 := dk_seg dksX3_take_8 24 rfl rfl
theorem dX3_take_0 : decode cX3_take 0 = .ok (.aload_n 0, 1) := dk_42 (dk_at dksX3_take_0 0 rfl rfl)
theorem dX3_take_1 : decode cX3_take 1 = .ok (.aload_n 1, 1) := dk_43 (dk_at dksX3_take_0 1 rfl rfl)
theorem dX3_take_2 : decode cX3_take 2 = .ok (.getfield 15, 3) := dk_180 0 15 (dk_at dksX3_take_0 2 rfl rfl)
theorem dX3_take_5 : decode cX3_take 5 = .ok (.putfield 15, 3) := dk_181 0 15 (dk_at dksX3_take_0 5 rfl rfl)
theorem dX3_take_8 : decode cX3_take 8 = .ok (.aload_n 0, 1) := dk_42 (dk_at dksX3_take_0 8 rfl rfl)
theorem dX3_take_9 : decode cX3_take 9 = .ok (.aload_n 1, 1) := dk_43 (dk_at dksX3_take_0 9 rfl rfl)
theorem dX3_take_10 : decode cX3_take 10 = .ok (.getfield 9, 3) := dk_180 0 9 (dk_at dksX3_take_0 10 rfl rfl)
theorem dX3_take_13 : decode cX3_take 13 = .ok (.putfield 9, 3) := dk_181 0 9 (dk_at dksX3_take_0 13 rfl rfl)
theorem dX3_take_16 : decode cX3_take 16 = .ok (.aload_n 0, 1) := dk_42 (dk_at dksX3_take_0 16 rfl rfl)
theorem dX3_take_17 : decode cX3_take 17 = .ok (.getfield 21, 3) := dk_180 0 21 (dk_at dksX3_take_0 17 rfl rfl)
theorem dX3_take_20 : decode cX3_take 20 = .ok (.invokevirtual 38, 3) := dk_182 0 38 (dk_at dksX3_take_0 20 rfl rfl)
theorem dX3_take_23 : decode cX3_take 23 = .ok (.aload_n 1, 1) := dk_43 (dk_at dksX3_take_0 23 rfl rfl)
theorem dX3_take_24 : decode cX3_take 24 = .ok (.getfield 21, 3) := dk_180 0 21 (dk_at dksX3_take_1 0 rfl rfl)
theorem dX3_take_27 : decode cX3_take 27 = .ok (.invokevirtual 110, 3) := dk_182 0 110 (dk_at dksX3_take_1 3 rfl rfl)
theorem dX3_take_30 : decode cX3_take 30 = .ok (.astore_n 2, 1) := dk_77 (dk_at dksX3_take_1 6 rfl rfl)
theorem dX3_take_31 : decode cX3_take 31 = .ok (.aload_n 2, 1) := dk_44 (dk_at dksX3_take_1 7 rfl rfl)
theorem dX3_take_32 : decode cX3_take 32 = .ok (.invokeinterface 114 1, 5) := by decide +kernel
theorem dX3_take_37 : decode cX3_take 37 = .ok (.ifCond .eq 77, 3) := dk_153 0 77 (dk_at dksX3_take_1 13 rfl rfl)
theorem dX3_take_40 : decode cX3_take 40 = .ok (.aload_n 2, 1) := dk_44 (dk_at dksX3_take_1 16 rfl rfl)
theorem dX3_take_41 : decode cX3_take 41 = .ok (.invokeinterface 120 1, 5) := by decide +kernel
theorem dX3_take_46 : decode cX3_take 46 = .ok (.checkcast 18, 3) := dk_192 0 18 (dk_at dksX3_take_2 0 rfl rfl)
theorem dX3_take_49 : decode cX3_take 49 = .ok (.astore_n 3, 1) := dk_78 (dk_at dksX3_take_2 3 rfl rfl)
theorem dX3_take_50 : decode cX3_take 50 = .ok (.new 18, 3) := dk_187 0 18 (dk_at dksX3_take_2 4 rfl rfl)
theorem dX3_take_53 : decode cX3_take 53 = .ok (.dup, 1) := dk_89 (dk_at dksX3_take_2 7 rfl rfl)
theorem dX3_take_54 : decode cX3_take 54 = .ok (.invokespecial 20, 3) := dk_183 0 20 (dk_at dksX3_take_2 8 rfl rfl)
theorem dX3_take_57 : decode cX3_take 57 = .ok (.astore 4, 2) := dk_58 4 (dk_at dksX3_take_2 11 rfl rfl)
theorem dX3_take_59 : decode cX3_take 59 = .ok (.aload_n 3, 1) := dk_45 (dk_at dksX3_take_2 13 rfl rfl)
theorem dX3_take_60 : decode cX3_take 60 = .ok (.invokevirtual 110, 3) := dk_182 0 110 (dk_at dksX3_take_2 14 rfl rfl)
theorem dX3_take_63 : decode cX3_take 63 = .ok (.astore 5, 2) := dk_58 5 (dk_at dksX3_take_2 17 rfl rfl)
theorem dX3_take_65 : decode cX3_take 65 = .ok (.aload 5, 2) := dk_25 5 (dk_at dksX3_take_2 19 rfl rfl)
theorem dX3_take_67 : decode cX3_take 67 = .ok (.invokeinterface 114 1, 5) := by decide +kernel
theorem dX3_take_72 : decode cX3_take 72 = .ok (.ifCond .eq 29, 3) := dk_153 0 29 (dk_at dksX3_take_3 5 rfl rfl)
theorem dX3_take_75 : decode cX3_take 75 = .ok (.aload 5, 2) := dk_25 5 (dk_at dksX3_take_3 8 rfl rfl)
theorem dX3_take_77 : decode cX3_take 77 = .ok (.invokeinterface 120 1, 5) := by decide +kernel
theorem dX3_take_82 : decode cX3_take 82 = .ok (.checkcast 41, 3) := dk_192 0 41 (dk_at dksX3_take_3 15 rfl rfl)
theorem dX3_take_85 : decode cX3_take 85 = .ok (.astore 6, 2) := dk_58 6 (dk_at dksX3_take_3 18 rfl rfl)
theorem dX3_take_87 : decode cX3_take 87 = .ok (.aload 4, 2) := dk_25 4 (dk_at dksX3_take_3 20 rfl rfl)
theorem dX3_take_89 : decode cX3_take 89 = .ok (.aload 6, 2) := dk_25 6 (dk_at dksX3_take_3 22 rfl rfl)
theorem dX3_take_91 : decode cX3_take 91 = .ok (.invokevirtual 187, 3) := dk_182 0 187 (dk_at dksX3_take_4 0 rfl rfl)
theorem dX3_take_94 : decode cX3_take 94 = .ok (.invokevirtual 46, 3) := dk_182 0 46 (dk_at dksX3_take_4 3 rfl rfl)
theorem dX3_take_97 : decode cX3_take 97 = .ok (.pop, 1) := dk_87 (dk_at dksX3_take_4 6 rfl rfl)
theorem dX3_take_98 : decode cX3_take 98 = .ok (.goto (-33), 3) := dk_167 255 223 (dk_at dksX3_take_4 7 rfl rfl)
theorem dX3_take_101 : decode cX3_take 101 = .ok (.aload_n 0, 1) := dk_42 (dk_at dksX3_take_4 10 rfl rfl)
theorem dX3_take_102 : decode cX3_take 102 = .ok (.getfield 21, 3) := dk_180 0 21 (dk_at dksX3_take_4 11 rfl rfl)
theorem dX3_take_105 : decode cX3_take 105 = .ok (.aload 4, 2) := dk_25 4 (dk_at dksX3_take_4 14 rfl rfl)
theorem dX3_take_107 : decode cX3_take 107 = .ok (.invokevirtual 46, 3) := dk_182 0 46 (dk_at dksX3_take_4 16 rfl rfl)
theorem dX3_take_110 : decode cX3_take 110 = .ok (.pop, 1) := dk_87 (dk_at dksX3_take_4 19 rfl rfl)
theorem dX3_take_111 : decode cX3_take 111 = .ok (.goto (-80), 3) := dk_167 255 176 (dk_at dksX3_take_4 20 rfl rfl)
theorem dX3_take_114 : decode cX3_take 114 = .ok (.aload_n 0, 1) := dk_42 (dk_at dksX3_take_4 23 rfl rfl)
theorem dX3_take_115 : decode cX3_take 115 = .ok (.getfield 25, 3) := dk_180 0 25 (dk_at dksX3_take_5 0 rfl rfl)
theorem dX3_take_118 : decode cX3_take 118 = .ok (.invokevirtual 38, 3) := dk_182 0 38 (dk_at dksX3_take_5 3 rfl rfl)
theorem dX3_take_121 : decode cX3_take 121 = .ok (.aload_n 0, 1) := dk_42 (dk_at dksX3_take_5 6 rfl rfl)
theorem dX3_take_122 : decode cX3_take 122 = .ok (.getfield 25, 3) := dk_180 0 25 (dk_at dksX3_take_5 7 rfl rfl)
theorem dX3_take_125 : decode cX3_take 125 = .ok (.aload_n 1, 1) := dk_43 (dk_at dksX3_take_5 10 rfl rfl)
theorem dX3_take_126 : decode cX3_take 126 = .ok (.getfield 25, 3) := dk_180 0 25 (dk_at dksX3_take_5 11 rfl rfl)
theorem dX3_take_129 : decode cX3_take 129 = .ok (.invokevirtual 191, 3) := dk_182 0 191 (dk_at dksX3_take_5 14 rfl rfl)
theorem dX3_take_132 : decode cX3_take 132 = .ok (.pop, 1) := dk_87 (dk_at dksX3_take_5 17 rfl rfl)
theorem dX3_take_133 : decode cX3_take 133 = .ok (.aload_n 0, 1) := dk_42 (dk_at dksX3_take_5 18 rfl rfl)
theorem dX3_take_134 : decode cX3_take 134 = .ok (.getfield 28, 3) := dk_180 0 28 (dk_at dksX3_take_5 19 rfl rfl)
theorem dX3_take_137 : decode cX3_take 137 = .ok (.invokevirtual 38, 3) := dk_182 0 38 (dk_at dksX3_take_6 0 rfl rfl)
theorem dX3_take_140 : decode cX3_take 140 = .ok (.aload_n 0, 1) := dk_42 (dk_at dksX3_take_6 3 rfl rfl)
theorem dX3_take_141 : decode cX3_take 141 = .ok (.getfield 28, 3) := dk_180 0 28 (dk_at dksX3_take_6 4 rfl rfl)
theorem dX3_take_144 : decode cX3_take 144 = .ok (.aload_n 1, 1) := dk_43 (dk_at dksX3_take_6 7 rfl rfl)
theorem dX3_take_145 : decode cX3_take 145 = .ok (.getfield 28, 3) := dk_180 0 28 (dk_at dksX3_take_6 8 rfl rfl)
theorem dX3_take_148 : decode cX3_take 148 = .ok (.invokevirtual 191, 3) := dk_182 0 191 (dk_at dksX3_take_6 11 rfl rfl)
theorem dX3_take_151 : decode cX3_take 151 = .ok (.pop, 1) := dk_87 (dk_at dksX3_take_6 14 rfl rfl)
theorem dX3_take_152 : decode cX3_take 152 = .ok (.aload_n 0, 1) := dk_42 (dk_at dksX3_take_6 15 rfl rfl)
theorem dX3_take_153 : decode cX3_take 153 = .ok (.getfield 31, 3) := dk_180 0 31 (dk_at dksX3_take_6 16 rfl rfl)
theorem dX3_take_156 : decode cX3_take 156 = .ok (.invokevirtual 38, 3) := dk_182 0 38 (dk_at dksX3_take_6 19 rfl rfl)
theorem dX3_take_159 : decode cX3_take 159 = .ok (.aload_n 0, 1) := dk_42 (dk_at dksX3_take_6 22 rfl rfl)
theorem dX3_take_160 : decode cX3_take 160 = .ok (.getfield 31, 3) := dk_180 0 31 (dk_at dksX3_take_7 0 rfl rfl)
theorem dX3_take_163 : decode cX3_take 163 = .ok (.aload_n 1, 1) := dk_43 (dk_at dksX3_take_7 3 rfl rfl)
theorem dX3_take_164 : decode cX3_take 164 = .ok (.getfield 31, 3) := dk_180 0 31 (dk_at dksX3_take_7 4 rfl rfl)
theorem dX3_take_167 : decode cX3_take 167 = .ok (.invokevirtual 191, 3) := dk_182 0 191 (dk_at dksX3_take_7 7 rfl rfl)
theorem dX3_take_170 : decode cX3_take 170 = .ok (.pop, 1) := dk_87 (dk_at dksX3_take_7 10 rfl rfl)
theorem dX3_take_171 : decode cX3_take 171 = .ok (.aload_n 1, 1) := dk_43 (dk_at dksX3_take_7 11 rfl rfl)
theorem dX3_take_172 : decode cX3_take 172 = .ok (.getfield 34, 3) := dk_180 0 34 (dk_at dksX3_take_7 12 rfl rfl)
theorem dX3_take_175 : decode cX3_take 175 = .ok (.iconst 0, 1) := dk_3 (dk_at dksX3_take_7 15 rfl rfl)
theorem dX3_take_176 : decode cX3_take 176 = .ok (.aload_n 0, 1) := dk_42 (dk_at dksX3_take_7 16 rfl rfl)
theorem dX3_take_177 : decode cX3_take 177 = .ok (.getfield 34, 3) := dk_180 0 34 (dk_at dksX3_take_7 17 rfl rfl)
theorem dX3_take_180 : decode cX3_take 180 = .ok (.iconst 0, 1) := dk_3 (dk_at dksX3_take_7 20 rfl rfl)
theorem dX3_take_181 : decode cX3_take 181 = .ok (.bipush 24, 2) := dk_16 24 (dk_at dksX3_take_7 21 rfl rfl)
theorem dX3_take_183 : decode cX3_take 183 = .ok (.invokestatic 195, 3) := dk_184 0 195 (dk_at dksX3_take_8 0 rfl rfl)
theorem dX3_take_186 : decode cX3_take 186 = .ok (.aload_n 0, 1) := dk_42 (dk_at dksX3_take_8 3 rfl rfl)
theorem dX3_take_187 : decode cX3_take 187 = .ok (.aload_n 1, 1) := dk_43 (dk_at dksX3_take_8 4 rfl rfl)
theorem dX3_take_188 : decode cX3_take 188 = .ok (.getfield 68, 3) := dk_180 0 68 (dk_at dksX3_take_8 5 rfl rfl)
theorem dX3_take_191 : decode cX3_take 191 = .ok (.putfield 68, 3) := dk_181 0 68 (dk_at dksX3_take_8 8 rfl rfl)
theorem dX3_take_194 : decode cX3_take 194 = .ok (.aload_n 0, 1) := dk_42 (dk_at dksX3_take_8 11 rfl rfl)
theorem dX3_take_195 : decode cX3_take 195 = .ok (.aload_n 1, 1) := dk_43 (dk_at dksX3_take_8 12 rfl rfl)
theorem dX3_take_196 : decode cX3_take 196 = .ok (.getfield 184, 3) := dk_180 0 184 (dk_at dksX3_take_8 13 rfl rfl)
theorem dX3_take_199 : decode cX3_take 199 = .ok (.putfield 184, 3) := dk_181 0 184 (dk_at dksX3_take_8 16 rfl rfl)
theorem dX3_take_202 : decode cX3_take 202 = .ok (.aload_n 0, 1) := dk_42 (dk_at dksX3_take_8 19 rfl rfl)
theorem dX3_take_203 : decode cX3_take 203 = .ok (.aload_n 1, 1) := dk_43 (dk_at dksX3_take_8 20 rfl rfl)
theorem dX3_take_204 : decode cX3_take 204 = .ok (.getfield 181, 3) := dk_180 0 181 (dk_at dksX3_take_8 21 rfl rfl)
theorem dX3_take_207 : decode cX3_take 207 = .ok (.putfield 181, 3) := dk_181 0 181 (dk_at dksX3_take_9 0 rfl rfl)
theorem dX3_take_210 : decode cX3_take 210 = .ok (.aload_n 0, 1) := dk_42 (dk_at dksX3_take_9 3 rfl rfl)
theorem dX3_take_211 : decode cX3_take 211 = .ok (.aload_n 1, 1) := dk_43 (dk_at dksX3_take_9 4 rfl rfl)
theorem dX3_take_212 : decode cX3_take 212 = .ok (.getfield 88, 3) := dk_180 0 88 (dk_at dksX3_take_9 5 rfl rfl)
theorem dX3_take_215 : decode cX3_take 215 = .ok (.putfield 88, 3) := dk_181 0 88 (dk_at dksX3_take_9 8 rfl rfl)
theorem dX3_take_218 : decode cX3_take 218 = .ok (.aload_n 0, 1) := dk_42 (dk_at dksX3_take_9 11 rfl rfl)
theorem dX3_take_219 : decode cX3_take 219 = .ok (.aload_n 1, 1) := dk_43 (dk_at dksX3_take_9 12 rfl rfl)
theorem dX3_take_220 : decode cX3_take 220 = .ok (.getfield 108, 3) := dk_180 0 108 (dk_at dksX3_take_9 13 rfl rfl)
theorem dX3_take_223 : decode cX3_take 223 = .ok (.putfield 108, 3) := dk_181 0 108 (dk_at dksX3_take_9 16 rfl rfl)
theorem dX3_take_226 : decode cX3_take 226 = .ok (.aload_n 0, 1) := dk_42 (dk_at dksX3_take_9 19 rfl rfl)
theorem dX3_take_227 : decode cX3_take 227 = .ok (.areturn, 1) := dk_176 (dk_at dksX3_take_9 20 rfl rfl)
theorem fdX3_25_2 : sd_Fd "SofaDig$Sofa" 25 2 3 := ⟨(RX3, TX3, 12), "SofaDig$Sofa", rfl, by decide, rfl, in_X3, Or.inl rfl, Or.inl q250⟩
theorem fdX3_31_2 : sd_Fd "SofaDig$Sofa" 31 2 5 := ⟨(RX3, TX3, 12), "SofaDig$Sofa", rfl, by decide, rfl, in_X3, Or.inl rfl, Or.inl q259⟩
theorem fpX3_68_2 (n d : String) : sd_Fp ⟨"SofaDig$Sofa", n, d⟩ 68 2 7 .int := ⟨(RX3, TX3, 12), "SofaDig$Sofa", tyX3, rfl, by decide, rfl, in_X3, Or.inl rfl, tyX3_ok, nmX3, rfl, Or.inl ⟨rfl, Or.inl q264⟩⟩
theorem fdX3_184_2 : sd_Fd "SofaDig$Sofa" 184 2 8 := ⟨(RX3, TX3, 12), "SofaDig$Sofa", rfl, by decide, rfl, in_X3, Or.inl rfl, Or.inl q267⟩
theorem fpX3_184_2 (n d : String) : sd_Fp ⟨"SofaDig$Sofa", n, d⟩ 184 2 8 .int := ⟨(RX3, TX3, 12), "SofaDig$Sofa", tyX3, rfl, by decide, rfl, in_X3, Or.inl rfl, tyX3_ok, nmX3, rfl, Or.inl ⟨rfl, Or.inl q267⟩⟩
theorem fdX3_181_2 : sd_Fd "SofaDig$Sofa" 181 2 9 := ⟨(RX3, TX3, 12), "SofaDig$Sofa", rfl, by decide, rfl, in_X3, Or.inl rfl, Or.inl q269⟩
theorem fpX3_181_2 (n d : String) : sd_Fp ⟨"SofaDig$Sofa", n, d⟩ 181 2 9 .int := ⟨(RX3, TX3, 12), "SofaDig$Sofa", tyX3, rfl, by decide, rfl, in_X3, Or.inl rfl, tyX3_ok, nmX3, rfl, Or.inl ⟨rfl, Or.inl q269⟩⟩
theorem fdX3_88_2 : sd_Fd "SofaDig$Sofa" 88 2 10 := ⟨(RX3, TX3, 12), "SofaDig$Sofa", rfl, by decide, rfl, in_X3, Or.inl rfl, Or.inl q270⟩
theorem fpX3_88_2 (n d : String) : sd_Fp ⟨"SofaDig$Sofa", n, d⟩ 88 2 10 .int := ⟨(RX3, TX3, 12), "SofaDig$Sofa", tyX3, rfl, by decide, rfl, in_X3, Or.inl rfl, tyX3_ok, nmX3, rfl, Or.inl ⟨rfl, Or.inl q270⟩⟩
theorem fdX3_108_2 : sd_Fd "SofaDig$Sofa" 108 2 11 := ⟨(RX3, TX3, 12), "SofaDig$Sofa", rfl, by decide, rfl, in_X3, Or.inl rfl, Or.inl q273⟩
theorem fpX3_108_2 (n d : String) : sd_Fp ⟨"SofaDig$Sofa", n, d⟩ 108 2 11 .int := ⟨(RX3, TX3, 12), "SofaDig$Sofa", tyX3, rfl, by decide, rfl, in_X3, Or.inl rfl, tyX3_ok, nmX3, rfl, Or.inl ⟨rfl, Or.inl q273⟩⟩
theorem fc_SofaDig_Cushion : sd_Fc [3] "SofaDig$Cushion" := fun ci r hm hc => by
  simp only [List.mem_cons, List.not_mem_nil, or_false] at hm
  rcases hm with rfl
  · cases hc; exact Or.inl rfl
abbrev mX3_take : sd_Y := (yX3_take, cX3_take, 7, some (.object "SofaDig$Sofa"), none)
def fX3_take_b65 (G : sd_G) (k31 : Nat × Nat × Nat → sd_M Nat) (k65 : Nat × Nat × Nat × Nat × Nat → sd_M Nat) (w0 : Nat) (w1 : Nat) (w2 : Nat) (w4 : Nat) (w5 : Nat) : sd_M Nat :=
  sd_bnd (sd_isC G 42 w5) fun _ =>
  sd_bnd (fJ31_hasNext G w5) fun r29 =>
  if r29 = 0 then (
    sd_bnd (sd_getR G 2 2 w0) fun v30 =>
    sd_bnd (sd_isC G 41 v30) fun _ =>
    sd_bnd (fJ2_add G v30 w4) fun r31 =>
    k31 (w0, w1, w2))
  else (
    sd_bnd (sd_isC G 42 w5) fun _ =>
    sd_bnd (fJ31_next G w5) fun r32 =>
    sd_bnd (sd_cast G [3] r32) fun _ =>
    sd_bnd (sd_isC G 3 r32) fun _ =>
    sd_bnd (fX4_copy G r32) fun r33 =>
    sd_bnd (sd_isC G 41 w4) fun _ =>
    sd_bnd (fJ2_add G w4 r33) fun r34 =>
    k65 (w0, w1, w2, w4, w5))
set_option maxHeartbeats 4000000 in
theorem sX3_take_b65 (l : Launch) (G : sd_G) (a0 : Nat) (a1 : Nat) (ρ : Nat) (h2 : sd_H) (cT : Nat × Nat) (k31 : Nat × Nat × Nat → sd_M Nat) (Hk31 : ∀ (q : Nat × Nat × Nat) (h : sd_H) (c : Nat × Nat), k31 q h = some (ρ, c, h2) → sd_J mX3_take ((l, G), (7, 152), [.ref a0, .ref a1], (sd_oR ρ, h2), cT) 31 [(0, .ref q.1), (1, .ref q.2.1), (2, .ref q.2.2)] [] h c) (k65 : Nat × Nat × Nat × Nat × Nat → sd_M Nat) (Hk65 : ∀ (q : Nat × Nat × Nat × Nat × Nat) (h : sd_H) (c : Nat × Nat), k65 q h = some (ρ, c, h2) → sd_J mX3_take ((l, G), (7, 152), [.ref a0, .ref a1], (sd_oR ρ, h2), cT) 65 [(0, .ref q.1), (1, .ref q.2.1), (2, .ref q.2.2.1), (4, .ref q.2.2.2.1), (5, .ref q.2.2.2.2)] [] h c) (w0 : Nat) (w1 : Nat) (w2 : Nat) (w4 : Nat) (w5 : Nat) (h : sd_H) (c : Nat × Nat) (hf : fX3_take_b65 G k31 k65 w0 w1 w2 w4 w5 h = some (ρ, c, h2)) : sd_J mX3_take ((l, G), (7, 152), [.ref a0, .ref a1], (sd_oR ρ, h2), cT) 65 [(0, .ref w0), (1, .ref w1), (2, .ref w2), (4, .ref w4), (5, .ref w5)] [] h c := by
  unfold fX3_take_b65 at hf
  refine sj_aload 4 dX3_take_65 rfl ?_
  obtain ⟨fs67, he67, hf⟩ := sd_isC_some hf
  refine sj_cI (rest := []) (fun _ _ _ e => sj_runF (n := 0) 9 (As := []) (rest := []) (sJ31_hasNext l G w5 h _ _ _ e) he67 rfl rfl rfl rfl rfl q2191 q2195 q2197 q181 q2199 (by decide +kernel) rfl rfl (fun _ z => by cases z) ⟨Nat.le_of_ble_eq_true rfl, Nat.le_of_ble_eq_true rfl⟩ rfl (Nat.le_of_ble_eq_true rfl) dX3_take_67) hf (fun r29 h c hf => ?_)
  refine sj_ifeq 101 hf dX3_take_72 (by decide) (fun g72 hf => ?_) (fun g72 hf => ?_)
  · refine sj_aload_n 0 dX3_take_101 rfl ?_
    refine sj_getR fdX3_21_2 hf dX3_take_102 (fun v30 hf => ?_)
    refine sj_aload 3 dX3_take_105 rfl ?_
    obtain ⟨fs107, he107, hf⟩ := sd_isC_some hf
    refine sj_cI (rest := []) (fun _ _ _ e => sj_runV (n := 1) (As := [.ref w4]) (rest := []) (sJ2_add l G v30 w4 h _ _ _ e) he107 rfl rfl rfl rfl q337 q338 q339 q121 q340 (by decide +kernel) rfl rfl ⟨Nat.le_of_ble_eq_true rfl, Nat.le_of_ble_eq_true rfl⟩ rfl (Nat.le_of_ble_eq_true rfl) dX3_take_107) hf (fun r31 h c hf => ?_)
    refine sj_pop dX3_take_110 rfl ?_
    refine sj_goto 31 dX3_take_111 (by decide) ?_
    exact sj_loc [0, 1, 2] rfl (Hk31 (w0, w1, w2) _ _ hf)
  · refine sj_aload 4 dX3_take_75 rfl ?_
    obtain ⟨fs77, he77, hf⟩ := sd_isC_some hf
    refine sj_cR (rest := []) (fun _ _ _ e => sj_runF (n := 0) 10 (As := []) (rest := []) (sJ31_next l G w5 h _ _ _ e) he77 rfl rfl rfl rfl rfl q2201 q2204 q2206 q181 q2208 (by decide +kernel) rfl rfl (fun _ z => by cases z) ⟨Nat.le_of_ble_eq_true rfl, Nat.le_of_ble_eq_true rfl⟩ rfl (Nat.le_of_ble_eq_true rfl) dX3_take_77) hf (fun r32 h c hf => ?_)
    obtain ⟨ci82, fs82, he82, hm82, hf⟩ := sd_cast_some hf
    refine sj_cast he82 hm82 fc_SofaDig_Cushion q309 dX3_take_82 ?_
    refine sj_astore [(6, .ref r32), (0, .ref w0), (1, .ref w1), (2, .ref w2), (4, .ref w4), (5, .ref w5)] dX3_take_85 (by decide) rfl ?_
    refine sj_aload 4 dX3_take_87 rfl ?_
    refine sj_aload 0 dX3_take_89 rfl ?_
    obtain ⟨fs91, he91, hf⟩ := sd_isC_some hf
    refine sj_cR (rest := [.ref w4]) (fun _ _ _ e => sj_runV (n := 0) (As := []) (rest := [.ref w4]) (sX4_copy l G r32 h _ _ _ e) he91 rfl rfl rfl rfl q2213 q2214 q2215 q122 q2216 (by decide +kernel) rfl rfl ⟨Nat.le_of_ble_eq_true rfl, Nat.le_of_ble_eq_true rfl⟩ rfl (Nat.le_of_ble_eq_true rfl) dX3_take_91) hf (fun r33 h c hf => ?_)
    obtain ⟨fs94, he94, hf⟩ := sd_isC_some hf
    refine sj_cI (rest := []) (fun _ _ _ e => sj_runV (n := 1) (As := [.ref r33]) (rest := []) (sJ2_add l G w4 r33 h _ _ _ e) he94 rfl rfl rfl rfl q337 q338 q339 q121 q340 (by decide +kernel) rfl rfl ⟨Nat.le_of_ble_eq_true rfl, Nat.le_of_ble_eq_true rfl⟩ rfl (Nat.le_of_ble_eq_true rfl) dX3_take_94) hf (fun r34 h c hf => ?_)
    refine sj_pop dX3_take_97 rfl ?_
    refine sj_goto 65 dX3_take_98 (by decide) ?_
    exact sj_loc [1, 2, 3, 4, 5] rfl (Hk65 (w0, w1, w2, w4, w5) _ _ hf)
theorem sX3_take_b65_loop (l : Launch) (G : sd_G) (a0 : Nat) (a1 : Nat) (ρ : Nat) (h2 : sd_H) (cT : Nat × Nat) (k31 : Nat × Nat × Nat → sd_M Nat) (Hk31 : ∀ (q : Nat × Nat × Nat) (h : sd_H) (c : Nat × Nat), k31 q h = some (ρ, c, h2) → sd_J mX3_take ((l, G), (7, 152), [.ref a0, .ref a1], (sd_oR ρ, h2), cT) 31 [(0, .ref q.1), (1, .ref q.2.1), (2, .ref q.2.2)] [] h c) (n : Nat) : ∀ (q : Nat × Nat × Nat × Nat × Nat) (h : sd_H) (c : Nat × Nat), sd_loop (fun k s => fX3_take_b65 G k31 k s.1 s.2.1 s.2.2.1 s.2.2.2.1 s.2.2.2.2) n q h = some (ρ, c, h2) → sd_J mX3_take ((l, G), (7, 152), [.ref a0, .ref a1], (sd_oR ρ, h2), cT) 65 [(0, .ref q.1), (1, .ref q.2.1), (2, .ref q.2.2.1), (4, .ref q.2.2.2.1), (5, .ref q.2.2.2.2)] [] h c := by
  induction n with
  | zero => intro q h c hf; cases hf
  | succ n ih => intro q h c hf; exact sX3_take_b65 l G a0 a1 ρ h2 cT k31 Hk31 _ ih _ _ _ _ _ _ _ hf
def fX3_take_b31 (G : sd_G) (k31 : Nat × Nat × Nat → sd_M Nat) (w0 : Nat) (w1 : Nat) (w2 : Nat) : sd_M Nat :=
  sd_bnd (sd_isC G 42 w2) fun _ =>
  sd_bnd (fJ31_hasNext G w2) fun r6 =>
  if r6 = 0 then (
    sd_bnd (sd_getR G 2 3 w0) fun v7 =>
    sd_bnd (sd_isC G 41 v7) fun _ =>
    sd_bnd (fJ2_clear G v7) fun _ =>
    sd_bnd (sd_getR G 2 3 w0) fun v8 =>
    sd_bnd (sd_getR G 2 3 w1) fun v9 =>
    sd_bnd (sd_isC G 41 v8) fun _ =>
    sd_bnd (fJ2_addAll G v8 v9) fun r10 =>
    sd_bnd (sd_getR G 2 4 w0) fun v11 =>
    sd_bnd (sd_isC G 41 v11) fun _ =>
    sd_bnd (fJ2_clear G v11) fun _ =>
    sd_bnd (sd_getR G 2 4 w0) fun v12 =>
    sd_bnd (sd_getR G 2 4 w1) fun v13 =>
    sd_bnd (sd_isC G 41 v12) fun _ =>
    sd_bnd (fJ2_addAll G v12 v13) fun r14 =>
    sd_bnd (sd_getR G 2 5 w0) fun v15 =>
    sd_bnd (sd_isC G 41 v15) fun _ =>
    sd_bnd (fJ2_clear G v15) fun _ =>
    sd_bnd (sd_getR G 2 5 w0) fun v16 =>
    sd_bnd (sd_getR G 2 5 w1) fun v17 =>
    sd_bnd (sd_isC G 41 v16) fun _ =>
    sd_bnd (fJ2_addAll G v16 v17) fun r18 =>
    sd_bnd (sd_getR G 2 6 w1) fun v19 =>
    sd_bnd (sd_getR G 2 6 w0) fun v20 =>
    sd_bnd (sd_cpI G 0 v19 0 v20 0 24) fun _ =>
    sd_bnd (sd_getI G 2 7 w1) fun v21 =>
    sd_bnd (sd_put 2 7 .int w0 (.int v21)) fun _ =>
    sd_bnd (sd_getI G 2 8 w1) fun v22 =>
    sd_bnd (sd_put 2 8 .int w0 (.int v22)) fun _ =>
    sd_bnd (sd_getI G 2 9 w1) fun v23 =>
    sd_bnd (sd_put 2 9 .int w0 (.int v23)) fun _ =>
    sd_bnd (sd_getI G 2 10 w1) fun v24 =>
    sd_bnd (sd_put 2 10 .int w0 (.int v24)) fun _ =>
    sd_bnd (sd_getI G 2 11 w1) fun v25 =>
    sd_bnd (sd_put 2 11 .int w0 (.int v25)) fun _ =>
    sd_ret w0)
  else (
    sd_bnd (sd_isC G 42 w2) fun _ =>
    sd_bnd (fJ31_next G w2) fun r26 =>
    sd_bnd (sd_cast G [41] r26) fun _ =>
    sd_bnd (sd_new 41 3 [.int 0, .null, .int 0]) fun o27 =>
    sd_bnd (fJ2_init G o27) fun _ =>
    sd_bnd (sd_isC G 41 r26) fun _ =>
    sd_bnd (fJ2_iterator G r26) fun r28 =>
    sd_loop (fun k s => fX3_take_b65 G k31 k s.1 s.2.1 s.2.2.1 s.2.2.2.1 s.2.2.2.2) sd_FU (w0, w1, w2, o27, r28))
set_option maxHeartbeats 4000000 in
theorem sX3_take_b31 (l : Launch) (G : sd_G) (a0 : Nat) (a1 : Nat) (ρ : Nat) (h2 : sd_H) (cT : Nat × Nat) (k31 : Nat × Nat × Nat → sd_M Nat) (Hk31 : ∀ (q : Nat × Nat × Nat) (h : sd_H) (c : Nat × Nat), k31 q h = some (ρ, c, h2) → sd_J mX3_take ((l, G), (7, 152), [.ref a0, .ref a1], (sd_oR ρ, h2), cT) 31 [(0, .ref q.1), (1, .ref q.2.1), (2, .ref q.2.2)] [] h c) (w0 : Nat) (w1 : Nat) (w2 : Nat) (h : sd_H) (c : Nat × Nat) (hf : fX3_take_b31 G k31 w0 w1 w2 h = some (ρ, c, h2)) : sd_J mX3_take ((l, G), (7, 152), [.ref a0, .ref a1], (sd_oR ρ, h2), cT) 31 [(0, .ref w0), (1, .ref w1), (2, .ref w2)] [] h c := by
  unfold fX3_take_b31 at hf
  refine sj_aload_n 2 dX3_take_31 rfl ?_
  obtain ⟨fs32, he32, hf⟩ := sd_isC_some hf
  refine sj_cI (rest := []) (fun _ _ _ e => sj_runF (n := 0) 9 (As := []) (rest := []) (sJ31_hasNext l G w2 h _ _ _ e) he32 rfl rfl rfl rfl rfl q2191 q2195 q2197 q181 q2199 (by decide +kernel) rfl rfl (fun _ z => by cases z) ⟨Nat.le_of_ble_eq_true rfl, Nat.le_of_ble_eq_true rfl⟩ rfl (Nat.le_of_ble_eq_true rfl) dX3_take_32) hf (fun r6 h c hf => ?_)
  refine sj_ifeq 114 hf dX3_take_37 (by decide) (fun g37 hf => ?_) (fun g37 hf => ?_)
  · refine sj_aload_n 0 dX3_take_114 rfl ?_
    refine sj_getR fdX3_25_2 hf dX3_take_115 (fun v7 hf => ?_)
    obtain ⟨fs118, he118, hf⟩ := sd_isC_some hf
    refine sj_cV (rest := []) (fun _ _ _ e => sj_runV (n := 0) (As := []) (rest := []) (sJ2_clear l G v7 h _ _ _ e) he118 rfl rfl rfl rfl q305 q306 q307 q121 q308 (by decide +kernel) rfl rfl ⟨Nat.le_of_ble_eq_true rfl, Nat.le_of_ble_eq_true rfl⟩ rfl (Nat.le_of_ble_eq_true rfl) dX3_take_118) hf (fun h c hf => ?_)
    refine sj_aload_n 0 dX3_take_121 rfl ?_
    refine sj_getR fdX3_25_2 hf dX3_take_122 (fun v8 hf => ?_)
    refine sj_aload_n 1 dX3_take_125 rfl ?_
    refine sj_getR fdX3_25_2 hf dX3_take_126 (fun v9 hf => ?_)
    obtain ⟨fs129, he129, hf⟩ := sd_isC_some hf
    refine sj_cI (rest := []) (fun _ _ _ e => sj_runV (n := 1) (As := [.ref v9]) (rest := []) (sJ2_addAll l G v8 v9 h _ _ _ e) he129 rfl rfl rfl rfl q2219 q2220 q2221 q121 q2222 (by decide +kernel) rfl rfl ⟨Nat.le_of_ble_eq_true rfl, Nat.le_of_ble_eq_true rfl⟩ rfl (Nat.le_of_ble_eq_true rfl) dX3_take_129) hf (fun r10 h c hf => ?_)
    refine sj_pop dX3_take_132 rfl ?_
    refine sj_aload_n 0 dX3_take_133 rfl ?_
    refine sj_getR fdX3_28_2 hf dX3_take_134 (fun v11 hf => ?_)
    obtain ⟨fs137, he137, hf⟩ := sd_isC_some hf
    refine sj_cV (rest := []) (fun _ _ _ e => sj_runV (n := 0) (As := []) (rest := []) (sJ2_clear l G v11 h _ _ _ e) he137 rfl rfl rfl rfl q305 q306 q307 q121 q308 (by decide +kernel) rfl rfl ⟨Nat.le_of_ble_eq_true rfl, Nat.le_of_ble_eq_true rfl⟩ rfl (Nat.le_of_ble_eq_true rfl) dX3_take_137) hf (fun h c hf => ?_)
    refine sj_aload_n 0 dX3_take_140 rfl ?_
    refine sj_getR fdX3_28_2 hf dX3_take_141 (fun v12 hf => ?_)
    refine sj_aload_n 1 dX3_take_144 rfl ?_
    refine sj_getR fdX3_28_2 hf dX3_take_145 (fun v13 hf => ?_)
    obtain ⟨fs148, he148, hf⟩ := sd_isC_some hf
    refine sj_cI (rest := []) (fun _ _ _ e => sj_runV (n := 1) (As := [.ref v13]) (rest := []) (sJ2_addAll l G v12 v13 h _ _ _ e) he148 rfl rfl rfl rfl q2219 q2220 q2221 q121 q2222 (by decide +kernel) rfl rfl ⟨Nat.le_of_ble_eq_true rfl, Nat.le_of_ble_eq_true rfl⟩ rfl (Nat.le_of_ble_eq_true rfl) dX3_take_148) hf (fun r14 h c hf => ?_)
    refine sj_pop dX3_take_151 rfl ?_
    refine sj_aload_n 0 dX3_take_152 rfl ?_
    refine sj_getR fdX3_31_2 hf dX3_take_153 (fun v15 hf => ?_)
    obtain ⟨fs156, he156, hf⟩ := sd_isC_some hf
    refine sj_cV (rest := []) (fun _ _ _ e => sj_runV (n := 0) (As := []) (rest := []) (sJ2_clear l G v15 h _ _ _ e) he156 rfl rfl rfl rfl q305 q306 q307 q121 q308 (by decide +kernel) rfl rfl ⟨Nat.le_of_ble_eq_true rfl, Nat.le_of_ble_eq_true rfl⟩ rfl (Nat.le_of_ble_eq_true rfl) dX3_take_156) hf (fun h c hf => ?_)
    refine sj_aload_n 0 dX3_take_159 rfl ?_
    refine sj_getR fdX3_31_2 hf dX3_take_160 (fun v16 hf => ?_)
    refine sj_aload_n 1 dX3_take_163 rfl ?_
    refine sj_getR fdX3_31_2 hf dX3_take_164 (fun v17 hf => ?_)
    obtain ⟨fs167, he167, hf⟩ := sd_isC_some hf
    refine sj_cI (rest := []) (fun _ _ _ e => sj_runV (n := 1) (As := [.ref v17]) (rest := []) (sJ2_addAll l G v16 v17 h _ _ _ e) he167 rfl rfl rfl rfl q2219 q2220 q2221 q121 q2222 (by decide +kernel) rfl rfl ⟨Nat.le_of_ble_eq_true rfl, Nat.le_of_ble_eq_true rfl⟩ rfl (Nat.le_of_ble_eq_true rfl) dX3_take_167) hf (fun r18 h c hf => ?_)
    refine sj_pop dX3_take_170 rfl ?_
    refine sj_aload_n 1 dX3_take_171 rfl ?_
    refine sj_getR fdX3_34_2 hf dX3_take_172 (fun v19 hf => ?_)
    refine sj_iconst (v := 0) dX3_take_175 (by decide) ?_
    refine sj_aload_n 0 dX3_take_176 rfl ?_
    refine sj_getR fdX3_34_2 hf dX3_take_177 (fun v20 hf => ?_)
    refine sj_iconst (v := 0) dX3_take_180 (by decide) ?_
    refine sj_bipush (v := 24) dX3_take_181 (by decide) ?_
    refine sj_cpI q2234 (Nat.le_of_ble_eq_true rfl) (Nat.le_of_ble_eq_true rfl) hf dX3_take_183 (fun h hf => ?_)
    refine sj_aload_n 0 dX3_take_186 rfl ?_
    refine sj_aload_n 1 dX3_take_187 rfl ?_
    refine sj_getI fdX3_68_2 hf dX3_take_188 (fun v21 hf => ?_)
    refine sj_put (fpX3_68_2 _ _) hf dX3_take_191 (fun h hf => ?_)
    refine sj_aload_n 0 dX3_take_194 rfl ?_
    refine sj_aload_n 1 dX3_take_195 rfl ?_
    refine sj_getI fdX3_184_2 hf dX3_take_196 (fun v22 hf => ?_)
    refine sj_put (fpX3_184_2 _ _) hf dX3_take_199 (fun h hf => ?_)
    refine sj_aload_n 0 dX3_take_202 rfl ?_
    refine sj_aload_n 1 dX3_take_203 rfl ?_
    refine sj_getI fdX3_181_2 hf dX3_take_204 (fun v23 hf => ?_)
    refine sj_put (fpX3_181_2 _ _) hf dX3_take_207 (fun h hf => ?_)
    refine sj_aload_n 0 dX3_take_210 rfl ?_
    refine sj_aload_n 1 dX3_take_211 rfl ?_
    refine sj_getI fdX3_88_2 hf dX3_take_212 (fun v24 hf => ?_)
    refine sj_put (fpX3_88_2 _ _) hf dX3_take_215 (fun h hf => ?_)
    refine sj_aload_n 0 dX3_take_218 rfl ?_
    refine sj_aload_n 1 dX3_take_219 rfl ?_
    refine sj_getI fdX3_108_2 hf dX3_take_220 (fun v25 hf => ?_)
    refine sj_put (fpX3_108_2 _ _) hf dX3_take_223 (fun h hf => ?_)
    refine sj_aload_n 0 dX3_take_226 rfl ?_
    exact sj_aret (o := sd_oR) hf rfl rfl rfl (Or.inl ⟨_, rfl⟩) dX3_take_227
  · refine sj_aload_n 2 dX3_take_40 rfl ?_
    obtain ⟨fs41, he41, hf⟩ := sd_isC_some hf
    refine sj_cR (rest := []) (fun _ _ _ e => sj_runF (n := 0) 10 (As := []) (rest := []) (sJ31_next l G w2 h _ _ _ e) he41 rfl rfl rfl rfl rfl q2201 q2204 q2206 q181 q2208 (by decide +kernel) rfl rfl (fun _ z => by cases z) ⟨Nat.le_of_ble_eq_true rfl, Nat.le_of_ble_eq_true rfl⟩ rfl (Nat.le_of_ble_eq_true rfl) dX3_take_41) hf (fun r26 h c hf => ?_)
    obtain ⟨ci46, fs46, he46, hm46, hf⟩ := sd_cast_some hf
    refine sj_cast he46 hm46 fc_java_util_ArrayList q212 dX3_take_46 ?_
    refine sj_astore_n [(3, .ref r26), (0, .ref w0), (1, .ref w1), (2, .ref w2)] dX3_take_49 (by decide) rfl ?_
    refine sj_new fnX3_18 hf dX3_take_50 (fun o27 h c hf => ?_)
    refine sj_dup dX3_take_53 rfl ?_
    refine sj_cV (rest := [.ref o27]) (fun _ _ _ e => sj_runI (n := 0) (a := o27) (As := []) (rest := [.ref o27]) (sJ2_init l G o27 h _ _ _ e) rfl rfl q214 q215 q121 q216 rfl (by decide +kernel) rfl rfl (fun _ z => by cases z) ⟨Nat.le_of_ble_eq_true rfl, Nat.le_of_ble_eq_true rfl⟩ rfl (Nat.le_of_ble_eq_true rfl) dX3_take_54) hf (fun h c hf => ?_)
    refine sj_astore [(4, .ref o27), (3, .ref r26), (0, .ref w0), (1, .ref w1), (2, .ref w2)] dX3_take_57 (by decide) rfl ?_
    refine sj_aload_n 1 dX3_take_59 rfl ?_
    obtain ⟨fs60, he60, hf⟩ := sd_isC_some hf
    refine sj_cR (rest := []) (fun _ _ _ e => sj_runV (n := 0) (As := []) (rest := []) (sJ2_iterator l G r26 h _ _ _ e) he60 rfl rfl rfl rfl q2167 q2168 q2169 q121 q2170 (by decide +kernel) rfl rfl ⟨Nat.le_of_ble_eq_true rfl, Nat.le_of_ble_eq_true rfl⟩ rfl (Nat.le_of_ble_eq_true rfl) dX3_take_60) hf (fun r28 h c hf => ?_)
    refine sj_astore [(5, .ref r28), (4, .ref o27), (3, .ref r26), (0, .ref w0), (1, .ref w1), (2, .ref w2)] dX3_take_63 (by decide) rfl ?_
    exact sj_loc [3, 4, 5, 1, 0] rfl (sX3_take_b65_loop l G a0 a1 ρ h2 cT k31 Hk31 sd_FU (w0, w1, w2, o27, r28) _ _ hf)
theorem sX3_take_b31_loop (l : Launch) (G : sd_G) (a0 : Nat) (a1 : Nat) (ρ : Nat) (h2 : sd_H) (cT : Nat × Nat) (n : Nat) : ∀ (q : Nat × Nat × Nat) (h : sd_H) (c : Nat × Nat), sd_loop (fun k s => fX3_take_b31 G k s.1 s.2.1 s.2.2) n q h = some (ρ, c, h2) → sd_J mX3_take ((l, G), (7, 152), [.ref a0, .ref a1], (sd_oR ρ, h2), cT) 31 [(0, .ref q.1), (1, .ref q.2.1), (2, .ref q.2.2)] [] h c := by
  induction n with
  | zero => intro q h c hf; cases hf
  | succ n ih => intro q h c hf; exact sX3_take_b31 l G a0 a1 ρ h2 cT _ ih _ _ _ _ _ hf
def fX3_take (G : sd_G) (a0 : Nat) (a1 : Nat) : sd_M Nat :=
  sd_bnd (sd_getI G 2 1 a1) fun v1 =>
  sd_bnd (sd_put 2 1 .int a0 (.int v1)) fun _ =>
  sd_bnd (sd_getI G 2 0 a1) fun v2 =>
  sd_bnd (sd_put 2 0 .int a0 (.int v2)) fun _ =>
  sd_bnd (sd_getR G 2 2 a0) fun v3 =>
  sd_bnd (sd_isC G 41 v3) fun _ =>
  sd_bnd (fJ2_clear G v3) fun _ =>
  sd_bnd (sd_getR G 2 2 a1) fun v4 =>
  sd_bnd (sd_isC G 41 v4) fun _ =>
  sd_bnd (fJ2_iterator G v4) fun r5 =>
  sd_loop (fun k s => fX3_take_b31 G k s.1 s.2.1 s.2.2) sd_FU (a0, a1, r5)
set_option maxHeartbeats 4000000 in
theorem sX3_take (l : Launch) (G : sd_G) (a0 : Nat) (a1 : Nat) (h : sd_H) (ρ : Nat) (cT : Nat × Nat) (h2 : sd_H) (hf : fX3_take G a0 a1 h = some (ρ, cT, h2)) : sd_Met mX3_take ((l, G), (7, 152), [.ref a0, .ref a1], (sd_oR ρ, h2), cT) h := by
  refine sd_entry (plainFor_of_name rfl) rfl (Nat.le_of_ble_eq_true rfl) ?_
  show sd_J mX3_take ((l, G), (7, 152), [.ref a0, .ref a1], (sd_oR ρ, h2), cT) 0 [(0, .ref a0), (1, .ref a1)] [] h cT
  unfold fX3_take at hf
  refine sj_aload_n 0 dX3_take_0 rfl ?_
  refine sj_aload_n 1 dX3_take_1 rfl ?_
  refine sj_getI fdX3_15_2 hf dX3_take_2 (fun v1 hf => ?_)
  refine sj_put (fpX3_15_2 _ _) hf dX3_take_5 (fun h hf => ?_)
  refine sj_aload_n 0 dX3_take_8 rfl ?_
  refine sj_aload_n 1 dX3_take_9 rfl ?_
  refine sj_getI fdX3_9_2 hf dX3_take_10 (fun v2 hf => ?_)
  refine sj_put (fpX3_9_2 _ _) hf dX3_take_13 (fun h hf => ?_)
  refine sj_aload_n 0 dX3_take_16 rfl ?_
  refine sj_getR fdX3_21_2 hf dX3_take_17 (fun v3 hf => ?_)
  obtain ⟨fs20, he20, hf⟩ := sd_isC_some hf
  refine sj_cV (rest := []) (fun _ _ _ e => sj_runV (n := 0) (As := []) (rest := []) (sJ2_clear l G v3 h _ _ _ e) he20 rfl rfl rfl rfl q305 q306 q307 q121 q308 (by decide +kernel) rfl rfl ⟨Nat.le_of_ble_eq_true rfl, Nat.le_of_ble_eq_true rfl⟩ rfl (Nat.le_of_ble_eq_true rfl) dX3_take_20) hf (fun h c hf => ?_)
  refine sj_aload_n 1 dX3_take_23 rfl ?_
  refine sj_getR fdX3_21_2 hf dX3_take_24 (fun v4 hf => ?_)
  obtain ⟨fs27, he27, hf⟩ := sd_isC_some hf
  refine sj_cR (rest := []) (fun _ _ _ e => sj_runV (n := 0) (As := []) (rest := []) (sJ2_iterator l G v4 h _ _ _ e) he27 rfl rfl rfl rfl q2167 q2168 q2169 q121 q2170 (by decide +kernel) rfl rfl ⟨Nat.le_of_ble_eq_true rfl, Nat.le_of_ble_eq_true rfl⟩ rfl (Nat.le_of_ble_eq_true rfl) dX3_take_27) hf (fun r5 h c hf => ?_)
  refine sj_astore_n [(2, .ref r5), (0, .ref a0), (1, .ref a1)] dX3_take_30 (by decide) rfl ?_
  exact sj_loc [1, 2, 0] rfl (sX3_take_b31_loop l G a0 a1 ρ h2 cT sd_FU (a0, a1, r5) _ _ hf)
/-! SofaDig$Sofa.top(I)LSofaDig$Cushion; -/
abbrev cX3_top : ByteArray := prog_29_method_4_code
def yX3_top : MethodName := ⟨RX3, "top", "(I)LSofaDig$Cushion;"⟩
def dkwX3_top_1 : List UInt8 := [176]
abbrev dktX3_top_1 : List UInt8 := dkwX3_top_1 ++ []
def dkwX3_top_0 : List UInt8 := [42, 180, 0, 21, 27, 182, 0, 50, 192, 0, 18, 42, 27, 182, 0, 58, 4, 100, 182, 0, 50, 192, 0, 41]
abbrev dktX3_top_0 : List UInt8 := dkwX3_top_0 ++ dktX3_top_1
theorem dksX3_top_0 : cX3_top.data.toList.drop 0 = dktX3_top_0 := by decide +kernel
theorem dksX3_top_1 : cX3_top.data.toList.drop 24 = dktX3_top_1 := dk_seg dksX3_top_0 24 rfl rfl
theorem dX3_top_0 : decode cX3_top 0 = .ok (.aload_n 0, 1) := dk_42 (dk_at dksX3_top_0 0 rfl rfl)
theorem dX3_top_1 : decode cX3_top 1 = .ok (.getfield 21, 3) := dk_180 0 21 (dk_at dksX3_top_0 1 rfl rfl)
theorem dX3_top_4 : decode cX3_top 4 = .ok (.iload_n 1, 1) := dk_27 (dk_at dksX3_top_0 4 rfl rfl)
theorem dX3_top_5 : decode cX3_top 5 = .ok (.invokevirtual 50, 3) := dk_182 0 50 (dk_at dksX3_top_0 5 rfl rfl)
theorem dX3_top_8 : decode cX3_top 8 = .ok (.checkcast 18, 3) := dk_192 0 18 (dk_at dksX3_top_0 8 rfl rfl)
theorem dX3_top_11 : decode cX3_top 11 = .ok (.aload_n 0, 1) := dk_42 (dk_at dksX3_top_0 11 rfl rfl)
theorem dX3_top_12 : decode cX3_top 12 = .ok (.iload_n 1, 1) := dk_27 (dk_at dksX3_top_0 12 rfl rfl)
theorem dX3_top_13 : decode cX3_top 13 = .ok (.invokevirtual 58, 3) := dk_182 0 58 (dk_at dksX3_top_0 13 rfl rfl)
theorem dX3_top_16 : decode cX3_top 16 = .ok (.iconst 1, 1) := dk_4 (dk_at dksX3_top_0 16 rfl rfl)
theorem dX3_top_17 : decode cX3_top 17 = .ok (.isub, 1) := dk_100 (dk_at dksX3_top_0 17 rfl rfl)
theorem dX3_top_18 : decode cX3_top 18 = .ok (.invokevirtual 50, 3) := dk_182 0 50 (dk_at dksX3_top_0 18 rfl rfl)
theorem dX3_top_21 : decode cX3_top 21 = .ok (.checkcast 41, 3) := dk_192 0 41 (dk_at dksX3_top_0 21 rfl rfl)
theorem dX3_top_24 : decode cX3_top 24 = .ok (.areturn, 1) := dk_176 (dk_at dksX3_top_1 0 rfl rfl)
abbrev mX3_top : sd_Y := (yX3_top, cX3_top, 2, some (.object "SofaDig$Cushion"), none)
def fX3_top (G : sd_G) (a0 : Nat) (a1 : Int32) : sd_M Nat :=
  sd_bnd (sd_getR G 2 2 a0) fun v1 =>
  sd_bnd (sd_isC G 41 v1) fun _ =>
  sd_bnd (fJ2_get G v1 a1) fun r2 =>
  sd_bnd (sd_cast G [41] r2) fun _ =>
  sd_bnd (sd_isC G 2 a0) fun _ =>
  sd_bnd (fX3_height G a0 a1) fun r3 =>
  sd_bnd (sd_isC G 41 r2) fun _ =>
  sd_bnd (fJ2_get G r2 (r3 - 1)) fun r4 =>
  sd_bnd (sd_cast G [3] r4) fun _ =>
  sd_ret r4
set_option maxHeartbeats 4000000 in
theorem sX3_top (l : Launch) (G : sd_G) (a0 : Nat) (a1 : Int32) (h : sd_H) (ρ : Nat) (cT : Nat × Nat) (h2 : sd_H) (hf : fX3_top G a0 a1 h = some (ρ, cT, h2)) : sd_Met mX3_top ((l, G), (4, 85), [.ref a0, .int a1], (sd_oR ρ, h2), cT) h := by
  refine sd_entry (plainFor_of_name rfl) rfl (Nat.le_of_ble_eq_true rfl) ?_
  show sd_J mX3_top ((l, G), (4, 85), [.ref a0, .int a1], (sd_oR ρ, h2), cT) 0 [(0, .ref a0), (1, .int a1)] [] h cT
  unfold fX3_top at hf
  refine sj_aload_n 0 dX3_top_0 rfl ?_
  refine sj_getR fdX3_21_2 hf dX3_top_1 (fun v1 hf => ?_)
  refine sj_iload_n 1 dX3_top_4 rfl ?_
  obtain ⟨fs5, he5, hf⟩ := sd_isC_some hf
  refine sj_cR (rest := []) (fun _ _ _ e => sj_runV (n := 1) (As := [.int a1]) (rest := []) (sJ2_get l G v1 a1 h _ _ _ e) he5 rfl rfl rfl rfl q2158 q1002 q3425 q121 q1004 (by decide +kernel) rfl rfl ⟨Nat.le_of_ble_eq_true rfl, Nat.le_of_ble_eq_true rfl⟩ rfl (Nat.le_of_ble_eq_true rfl) dX3_top_5) hf (fun r2 h c hf => ?_)
  obtain ⟨ci8, fs8, he8, hm8, hf⟩ := sd_cast_some hf
  refine sj_cast he8 hm8 fc_java_util_ArrayList q212 dX3_top_8 ?_
  refine sj_aload_n 0 dX3_top_11 rfl ?_
  refine sj_iload_n 1 dX3_top_12 rfl ?_
  obtain ⟨fs13, he13, hf⟩ := sd_isC_some hf
  refine sj_cI (rest := [.ref r2]) (fun _ _ _ e => sj_runV (n := 1) (As := [.int a1]) (rest := [.ref r2]) (sX3_height l G a0 a1 h _ _ _ e) he13 rfl rfl rfl rfl q2243 q2155 q2156 q118 q2157 (by decide +kernel) rfl rfl ⟨Nat.le_of_ble_eq_true rfl, Nat.le_of_ble_eq_true rfl⟩ rfl (Nat.le_of_ble_eq_true rfl) dX3_top_13) hf (fun r3 h c hf => ?_)
  refine sj_iconst (v := 1) dX3_top_16 (by decide) ?_
  refine sj_isub dX3_top_17 ?_
  obtain ⟨fs18, he18, hf⟩ := sd_isC_some hf
  refine sj_cR (rest := []) (fun _ _ _ e => sj_runV (n := 1) (As := [.int (r3 - 1)]) (rest := []) (sJ2_get l G r2 (r3 - 1) h _ _ _ e) he18 rfl rfl rfl rfl q2158 q1002 q3425 q121 q1004 (by decide +kernel) rfl rfl ⟨Nat.le_of_ble_eq_true rfl, Nat.le_of_ble_eq_true rfl⟩ rfl (Nat.le_of_ble_eq_true rfl) dX3_top_18) hf (fun r4 h c hf => ?_)
  obtain ⟨ci21, fs21, he21, hm21, hf⟩ := sd_cast_some hf
  refine sj_cast he21 hm21 fc_SofaDig_Cushion q309 dX3_top_21 ?_
  exact sj_aret (o := sd_oR) hf rfl rfl rfl (Or.inl ⟨_, rfl⟩) dX3_top_24
/-! SofaDig$Sofa.slides(II)Z -/
abbrev cX3_slides : ByteArray := prog_29_method_11_code
def yX3_slides : MethodName := ⟨RX3, "slides", "(II)Z"⟩
def dkwX3_slides_2 : List UInt8 := [167, 0, 4, 3, 172]
abbrev dktX3_slides_2 : List UInt8 := dkwX3_slides_2 ++ []
def dkwX3_slides_1 : List UInt8 := [164, 0, 26, 42, 27, 182, 0, 71, 154, 0, 18, 42, 27, 182, 0, 81, 180, 0, 98, 154, 0, 7, 4]
abbrev dktX3_slides_1 : List UInt8 := dkwX3_slides_1 ++ dktX3_slides_2
def dkwX3_slides_0 : List UInt8 := [27, 155, 0, 49, 27, 42, 180, 0, 15, 162, 0, 41, 42, 27, 182, 0, 58, 42, 28, 182, 0, 58, 100, 6]
abbrev dktX3_slides_0 : List UInt8 := dkwX3_slides_0 ++ dktX3_slides_1
theorem dksX3_slides_0 : cX3_slides.data.toList.drop 0 = dktX3_slides_0 := by decide +kernel
theorem dksX3_slides_1 : cX3_slides.data.toList.drop 24 = dktX3_slides_1 := dk_seg dksX3_slides_0 24 rfl rfl
theorem dksX3_slides_2 : cX3_slides.data.toList.drop 47 = dktX3_slides_2 := dk_seg dksX3_slides_1 23 rfl rfl
theorem dX3_slides_0 : decode cX3_slides 0 = .ok (.iload_n 1, 1) := dk_27 (dk_at dksX3_slides_0 0 rfl rfl)
theorem dX3_slides_1 : decode cX3_slides 1 = .ok (.ifCond .lt 49, 3) := dk_155 0 49 (dk_at dksX3_slides_0 1 rfl rfl)
theorem dX3_slides_4 : decode cX3_slides 4 = .ok (.iload_n 1, 1) := dk_27 (dk_at dksX3_slides_0 4 rfl rfl)
theorem dX3_slides_5 : decode cX3_slides 5 = .ok (.aload_n 0, 1) := dk_42 (dk_at dksX3_slides_0 5 rfl rfl)
theorem dX3_slides_6 : decode cX3_slides 6 = .ok (.getfield 15, 3) := dk_180 0 15 (dk_at dksX3_slides_0 6 rfl rfl)
theorem dX3_slides_9 : decode cX3_slides 9 = .ok (.if_icmp .ge 41, 3) := dk_162 0 41 (dk_at dksX3_slides_0 9 rfl rfl)
theorem dX3_slides_12 : decode cX3_slides 12 = .ok (.aload_n 0, 1) := dk_42 (dk_at dksX3_slides_0 12 rfl rfl)
theorem dX3_slides_13 : decode cX3_slides 13 = .ok (.iload_n 1, 1) := dk_27 (dk_at dksX3_slides_0 13 rfl rfl)
theorem dX3_slides_14 : decode cX3_slides 14 = .ok (.invokevirtual 58, 3) := dk_182 0 58 (dk_at dksX3_slides_0 14 rfl rfl)
theorem dX3_slides_17 : decode cX3_slides 17 = .ok (.aload_n 0, 1) := dk_42 (dk_at dksX3_slides_0 17 rfl rfl)
theorem dX3_slides_18 : decode cX3_slides 18 = .ok (.iload_n 2, 1) := dk_28 (dk_at dksX3_slides_0 18 rfl rfl)
theorem dX3_slides_19 : decode cX3_slides 19 = .ok (.invokevirtual 58, 3) := dk_182 0 58 (dk_at dksX3_slides_0 19 rfl rfl)
theorem dX3_slides_22 : decode cX3_slides 22 = .ok (.isub, 1) := dk_100 (dk_at dksX3_slides_0 22 rfl rfl)
theorem dX3_slides_23 : decode cX3_slides 23 = .ok (.iconst 3, 1) := dk_6 (dk_at dksX3_slides_0 23 rfl rfl)
theorem dX3_slides_24 : decode cX3_slides 24 = .ok (.if_icmp .le 26, 3) := dk_164 0 26 (dk_at dksX3_slides_1 0 rfl rfl)
theorem dX3_slides_27 : decode cX3_slides 27 = .ok (.aload_n 0, 1) := dk_42 (dk_at dksX3_slides_1 3 rfl rfl)
theorem dX3_slides_28 : decode cX3_slides 28 = .ok (.iload_n 1, 1) := dk_27 (dk_at dksX3_slides_1 4 rfl rfl)
theorem dX3_slides_29 : decode cX3_slides 29 = .ok (.invokevirtual 71, 3) := dk_182 0 71 (dk_at dksX3_slides_1 5 rfl rfl)
theorem dX3_slides_32 : decode cX3_slides 32 = .ok (.ifCond .ne 18, 3) := dk_154 0 18 (dk_at dksX3_slides_1 8 rfl rfl)
theorem dX3_slides_35 : decode cX3_slides 35 = .ok (.aload_n 0, 1) := dk_42 (dk_at dksX3_slides_1 11 rfl rfl)
theorem dX3_slides_36 : decode cX3_slides 36 = .ok (.iload_n 1, 1) := dk_27 (dk_at dksX3_slides_1 12 rfl rfl)
theorem dX3_slides_37 : decode cX3_slides 37 = .ok (.invokevirtual 81, 3) := dk_182 0 81 (dk_at dksX3_slides_1 13 rfl rfl)
theorem dX3_slides_40 : decode cX3_slides 40 = .ok (.getfield 98, 3) := dk_180 0 98 (dk_at dksX3_slides_1 16 rfl rfl)
theorem dX3_slides_43 : decode cX3_slides 43 = .ok (.ifCond .ne 7, 3) := dk_154 0 7 (dk_at dksX3_slides_1 19 rfl rfl)
theorem dX3_slides_46 : decode cX3_slides 46 = .ok (.iconst 1, 1) := dk_4 (dk_at dksX3_slides_1 22 rfl rfl)
theorem dX3_slides_47 : decode cX3_slides 47 = .ok (.goto 4, 3) := dk_167 0 4 (dk_at dksX3_slides_2 0 rfl rfl)
theorem dX3_slides_50 : decode cX3_slides 50 = .ok (.iconst 0, 1) := dk_3 (dk_at dksX3_slides_2 3 rfl rfl)
theorem dX3_slides_51 : decode cX3_slides 51 = .ok (.ireturn, 1) := dk_172 (dk_at dksX3_slides_2 4 rfl rfl)
theorem fdX3_98_3 : sd_Fd "SofaDig$Sofa" 98 3 2 := ⟨(RX4, TX4, 4), "SofaDig$Cushion", rfl, by decide, rfl, in_X4, Or.inl rfl, Or.inr ⟨_, q322⟩⟩
abbrev mX3_slides : sd_Y := (yX3_slides, cX3_slides, 3, some (.boolean), none)
def fX3_slides (G : sd_G) (a0 : Nat) (a1 : Int32) (a2 : Int32) : sd_M Int32 :=
  if a1 < 0 then (
    sd_ret 0)
  else (
    sd_bnd (sd_getI G 2 1 a0) fun v1 =>
    if v1 ≤ a1 then (
      sd_ret 0)
    else (
      sd_bnd (sd_isC G 2 a0) fun _ =>
      sd_bnd (fX3_height G a0 a1) fun r2 =>
      sd_bnd (sd_isC G 2 a0) fun _ =>
      sd_bnd (fX3_height G a0 a2) fun r3 =>
      if (r2 - r3) ≤ 3 then (
        sd_ret 0)
      else (
        sd_bnd (sd_isC G 2 a0) fun _ =>
        sd_bnd (fX3_isPropped G a0 a1) fun r4 =>
        if r4 = 0 then (
          sd_bnd (sd_isC G 2 a0) fun _ =>
          sd_bnd (fX3_top G a0 a1) fun r5 =>
          sd_bnd (sd_getI G 3 2 r5) fun v6 =>
          if v6 = 0 then (
            sd_ret 1)
          else (
            sd_ret 0))
        else (
          sd_ret 0))))
set_option maxHeartbeats 4000000 in
theorem sX3_slides (l : Launch) (G : sd_G) (a0 : Nat) (a1 : Int32) (a2 : Int32) (h : sd_H) (ρ : Int32) (cT : Nat × Nat) (h2 : sd_H) (hf : fX3_slides G a0 a1 a2 h = some (ρ, cT, h2)) : sd_Met mX3_slides ((l, G), (5, 106), [.ref a0, .int a1, .int a2], (sd_oI ρ, h2), cT) h := by
  refine sd_entry (plainFor_of_name rfl) rfl (Nat.le_of_ble_eq_true rfl) ?_
  show sd_J mX3_slides ((l, G), (5, 106), [.ref a0, .int a1, .int a2], (sd_oI ρ, h2), cT) 0 [(0, .ref a0), (1, .int a1), (2, .int a2)] [] h cT
  unfold fX3_slides at hf
  refine sj_iload_n 1 dX3_slides_0 rfl ?_
  refine sj_iflt 50 hf dX3_slides_1 (by decide) (fun g1 hf => ?_) (fun g1 hf => ?_)
  · refine sj_iconst (v := 0) dX3_slides_50 (by decide) ?_
    exact sj_zretC (o := sd_oI) (ty := .boolean) rfl hf rfl rfl rfl dX3_slides_51
  · refine sj_iload_n 1 dX3_slides_4 rfl ?_
    refine sj_aload_n 0 dX3_slides_5 rfl ?_
    refine sj_getI fdX3_15_2 hf dX3_slides_6 (fun v1 hf => ?_)
    refine sj_icge 50 hf dX3_slides_9 (by decide) (fun g9 hf => ?_) (fun g9 hf => ?_)
    · refine sj_iconst (v := 0) dX3_slides_50 (by decide) ?_
      exact sj_zretC (o := sd_oI) (ty := .boolean) rfl hf rfl rfl rfl dX3_slides_51
    · refine sj_aload_n 0 dX3_slides_12 rfl ?_
      refine sj_iload_n 1 dX3_slides_13 rfl ?_
      obtain ⟨fs14, he14, hf⟩ := sd_isC_some hf
      refine sj_cI (rest := []) (fun _ _ _ e => sj_runV (n := 1) (As := [.int a1]) (rest := []) (sX3_height l G a0 a1 h _ _ _ e) he14 rfl rfl rfl rfl q2243 q2155 q2156 q118 q2157 (by decide +kernel) rfl rfl ⟨Nat.le_of_ble_eq_true rfl, Nat.le_of_ble_eq_true rfl⟩ rfl (Nat.le_of_ble_eq_true rfl) dX3_slides_14) hf (fun r2 h c hf => ?_)
      refine sj_aload_n 0 dX3_slides_17 rfl ?_
      refine sj_iload_n 2 dX3_slides_18 rfl ?_
      obtain ⟨fs19, he19, hf⟩ := sd_isC_some hf
      refine sj_cI (rest := [.int r2]) (fun _ _ _ e => sj_runV (n := 1) (As := [.int a2]) (rest := [.int r2]) (sX3_height l G a0 a2 h _ _ _ e) he19 rfl rfl rfl rfl q2243 q2155 q2156 q118 q2157 (by decide +kernel) rfl rfl ⟨Nat.le_of_ble_eq_true rfl, Nat.le_of_ble_eq_true rfl⟩ rfl (Nat.le_of_ble_eq_true rfl) dX3_slides_19) hf (fun r3 h c hf => ?_)
      refine sj_isub dX3_slides_22 ?_
      refine sj_iconst (v := 3) dX3_slides_23 (by decide) ?_
      refine sj_icle 50 hf dX3_slides_24 (by decide) (fun g24 hf => ?_) (fun g24 hf => ?_)
      · refine sj_iconst (v := 0) dX3_slides_50 (by decide) ?_
        exact sj_zretC (o := sd_oI) (ty := .boolean) rfl hf rfl rfl rfl dX3_slides_51
      · refine sj_aload_n 0 dX3_slides_27 rfl ?_
        refine sj_iload_n 1 dX3_slides_28 rfl ?_
        obtain ⟨fs29, he29, hf⟩ := sd_isC_some hf
        refine sj_cI (rest := []) (fun _ _ _ e => sj_runV (n := 1) (As := [.int a1]) (rest := []) (sX3_isPropped l G a0 a1 h _ _ _ e) he29 rfl rfl rfl rfl q2146 q2147 q2148 q118 q2149 (by decide +kernel) rfl rfl ⟨Nat.le_of_ble_eq_true rfl, Nat.le_of_ble_eq_true rfl⟩ rfl (Nat.le_of_ble_eq_true rfl) dX3_slides_29) hf (fun r4 h c hf => ?_)
        refine sj_ifne 50 hf dX3_slides_32 (by decide) (fun g32 hf => ?_) (fun g32 hf => ?_)
        · refine sj_iconst (v := 0) dX3_slides_50 (by decide) ?_
          exact sj_zretC (o := sd_oI) (ty := .boolean) rfl hf rfl rfl rfl dX3_slides_51
        · refine sj_aload_n 0 dX3_slides_35 rfl ?_
          refine sj_iload_n 1 dX3_slides_36 rfl ?_
          obtain ⟨fs37, he37, hf⟩ := sd_isC_some hf
          refine sj_cR (rest := []) (fun _ _ _ e => sj_runV (n := 1) (As := [.int a1]) (rest := []) (sX3_top l G a0 a1 h _ _ _ e) he37 rfl rfl rfl rfl q2239 q2240 q2241 q118 q2242 (by decide +kernel) rfl rfl ⟨Nat.le_of_ble_eq_true rfl, Nat.le_of_ble_eq_true rfl⟩ rfl (Nat.le_of_ble_eq_true rfl) dX3_slides_37) hf (fun r5 h c hf => ?_)
          refine sj_getI fdX3_98_3 hf dX3_slides_40 (fun v6 hf => ?_)
          refine sj_ifne 50 hf dX3_slides_43 (by decide) (fun g43 hf => ?_) (fun g43 hf => ?_)
          · refine sj_iconst (v := 0) dX3_slides_50 (by decide) ?_
            exact sj_zretC (o := sd_oI) (ty := .boolean) rfl hf rfl rfl rfl dX3_slides_51
          · refine sj_iconst (v := 1) dX3_slides_46 (by decide) ?_
            refine sj_goto 51 dX3_slides_47 (by decide) ?_
            exact sj_zretC (o := sd_oI) (ty := .boolean) rfl hf rfl rfl rfl dX3_slides_51
/-! SofaDig$Sofa.sliding(I)I -/
abbrev cX3_sliding : ByteArray := prog_29_method_12_code
def yX3_sliding : MethodName := ⟨RX3, "sliding", "(I)I"⟩
def dkwX3_sliding_1 : List UInt8 := [182, 0, 101, 153, 0, 9, 27, 4, 96, 167, 0, 4, 2, 172]
abbrev dktX3_sliding_1 : List UInt8 := dkwX3_sliding_1 ++ []
def dkwX3_sliding_0 : List UInt8 := [42, 27, 4, 100, 27, 182, 0, 101, 153, 0, 9, 27, 4, 100, 167, 0, 21, 42, 27, 4, 96, 27]
abbrev dktX3_sliding_0 : List UInt8 := dkwX3_sliding_0 ++ dktX3_sliding_1
theorem dksX3_sliding_0 : cX3_sliding.data.toList.drop 0 = dktX3_sliding_0 := by decide +kernel
theorem dksX3_sliding_1 : cX3_sliding.data.toList.drop 22 = dktX3_sliding_1 := dk_seg dksX3_sliding_0 22 rfl rfl
theorem dX3_sliding_0 : decode cX3_sliding 0 = .ok (.aload_n 0, 1) := dk_42 (dk_at dksX3_sliding_0 0 rfl rfl)
theorem dX3_sliding_1 : decode cX3_sliding 1 = .ok (.iload_n 1, 1) := dk_27 (dk_at dksX3_sliding_0 1 rfl rfl)
theorem dX3_sliding_2 : decode cX3_sliding 2 = .ok (.iconst 1, 1) := dk_4 (dk_at dksX3_sliding_0 2 rfl rfl)
theorem dX3_sliding_3 : decode cX3_sliding 3 = .ok (.isub, 1) := dk_100 (dk_at dksX3_sliding_0 3 rfl rfl)
theorem dX3_sliding_4 : decode cX3_sliding 4 = .ok (.iload_n 1, 1) := dk_27 (dk_at dksX3_sliding_0 4 rfl rfl)
theorem dX3_sliding_5 : decode cX3_sliding 5 = .ok (.invokevirtual 101, 3) := dk_182 0 101 (dk_at dksX3_sliding_0 5 rfl rfl)
theorem dX3_sliding_8 : decode cX3_sliding 8 = .ok (.ifCond .eq 9, 3) := dk_153 0 9 (dk_at dksX3_sliding_0 8 rfl rfl)
theorem dX3_sliding_11 : decode cX3_sliding 11 = .ok (.iload_n 1, 1) := dk_27 (dk_at dksX3_sliding_0 11 rfl rfl)
theorem dX3_sliding_12 : decode cX3_sliding 12 = .ok (.iconst 1, 1) := dk_4 (dk_at dksX3_sliding_0 12 rfl rfl)
theorem dX3_sliding_13 : decode cX3_sliding 13 = .ok (.isub, 1) := dk_100 (dk_at dksX3_sliding_0 13 rfl rfl)
theorem dX3_sliding_14 : decode cX3_sliding 14 = .ok (.goto 21, 3) := dk_167 0 21 (dk_at dksX3_sliding_0 14 rfl rfl)
theorem dX3_sliding_17 : decode cX3_sliding 17 = .ok (.aload_n 0, 1) := dk_42 (dk_at dksX3_sliding_0 17 rfl rfl)
theorem dX3_sliding_18 : decode cX3_sliding 18 = .ok (.iload_n 1, 1) := dk_27 (dk_at dksX3_sliding_0 18 rfl rfl)
theorem dX3_sliding_19 : decode cX3_sliding 19 = .ok (.iconst 1, 1) := dk_4 (dk_at dksX3_sliding_0 19 rfl rfl)
theorem dX3_sliding_20 : decode cX3_sliding 20 = .ok (.iadd, 1) := dk_96 (dk_at dksX3_sliding_0 20 rfl rfl)
theorem dX3_sliding_21 : decode cX3_sliding 21 = .ok (.iload_n 1, 1) := dk_27 (dk_at dksX3_sliding_0 21 rfl rfl)
theorem dX3_sliding_22 : decode cX3_sliding 22 = .ok (.invokevirtual 101, 3) := dk_182 0 101 (dk_at dksX3_sliding_1 0 rfl rfl)
theorem dX3_sliding_25 : decode cX3_sliding 25 = .ok (.ifCond .eq 9, 3) := dk_153 0 9 (dk_at dksX3_sliding_1 3 rfl rfl)
theorem dX3_sliding_28 : decode cX3_sliding 28 = .ok (.iload_n 1, 1) := dk_27 (dk_at dksX3_sliding_1 6 rfl rfl)
theorem dX3_sliding_29 : decode cX3_sliding 29 = .ok (.iconst 1, 1) := dk_4 (dk_at dksX3_sliding_1 7 rfl rfl)
theorem dX3_sliding_30 : decode cX3_sliding 30 = .ok (.iadd, 1) := dk_96 (dk_at dksX3_sliding_1 8 rfl rfl)
theorem dX3_sliding_31 : decode cX3_sliding 31 = .ok (.goto 4, 3) := dk_167 0 4 (dk_at dksX3_sliding_1 9 rfl rfl)
theorem dX3_sliding_34 : decode cX3_sliding 34 = .ok (.iconst (-1), 1) := dk_2 (dk_at dksX3_sliding_1 12 rfl rfl)
theorem dX3_sliding_35 : decode cX3_sliding 35 = .ok (.ireturn, 1) := dk_172 (dk_at dksX3_sliding_1 13 rfl rfl)
abbrev mX3_sliding : sd_Y := (yX3_sliding, cX3_sliding, 2, some (.int), none)
def fX3_sliding (G : sd_G) (a0 : Nat) (a1 : Int32) : sd_M Int32 :=
  sd_bnd (sd_isC G 2 a0) fun _ =>
  sd_bnd (fX3_slides G a0 (a1 - 1) a1) fun r1 =>
  if r1 = 0 then (
    sd_bnd (sd_isC G 2 a0) fun _ =>
    sd_bnd (fX3_slides G a0 (a1 + 1) a1) fun r2 =>
    if r2 = 0 then (
      sd_ret (-1))
    else (
      sd_ret (a1 + 1)))
  else (
    sd_ret (a1 - 1))
set_option maxHeartbeats 4000000 in
theorem sX3_sliding (l : Launch) (G : sd_G) (a0 : Nat) (a1 : Int32) (h : sd_H) (ρ : Int32) (cT : Nat × Nat) (h2 : sd_H) (hf : fX3_sliding G a0 a1 h = some (ρ, cT, h2)) : sd_Met mX3_sliding ((l, G), (6, 128), [.ref a0, .int a1], (sd_oI ρ, h2), cT) h := by
  refine sd_entry (plainFor_of_name rfl) rfl (Nat.le_of_ble_eq_true rfl) ?_
  show sd_J mX3_sliding ((l, G), (6, 128), [.ref a0, .int a1], (sd_oI ρ, h2), cT) 0 [(0, .ref a0), (1, .int a1)] [] h cT
  unfold fX3_sliding at hf
  refine sj_aload_n 0 dX3_sliding_0 rfl ?_
  refine sj_iload_n 1 dX3_sliding_1 rfl ?_
  refine sj_iconst (v := 1) dX3_sliding_2 (by decide) ?_
  refine sj_isub dX3_sliding_3 ?_
  refine sj_iload_n 1 dX3_sliding_4 rfl ?_
  obtain ⟨fs5, he5, hf⟩ := sd_isC_some hf
  refine sj_cI (rest := []) (fun _ _ _ e => sj_runV (n := 2) (As := [.int (a1 - 1), .int a1]) (rest := []) (sX3_slides l G a0 (a1 - 1) a1 h _ _ _ e) he5 rfl rfl rfl rfl q2260 q2262 qs36 q118 q2263 (by decide +kernel) rfl rfl ⟨Nat.le_of_ble_eq_true rfl, Nat.le_of_ble_eq_true rfl⟩ rfl (Nat.le_of_ble_eq_true rfl) dX3_sliding_5) hf (fun r1 h c hf => ?_)
  refine sj_ifeq 17 hf dX3_sliding_8 (by decide) (fun g8 hf => ?_) (fun g8 hf => ?_)
  · refine sj_aload_n 0 dX3_sliding_17 rfl ?_
    refine sj_iload_n 1 dX3_sliding_18 rfl ?_
    refine sj_iconst (v := 1) dX3_sliding_19 (by decide) ?_
    refine sj_iadd dX3_sliding_20 ?_
    refine sj_iload_n 1 dX3_sliding_21 rfl ?_
    obtain ⟨fs22, he22, hf⟩ := sd_isC_some hf
    refine sj_cI (rest := []) (fun _ _ _ e => sj_runV (n := 2) (As := [.int (a1 + 1), .int a1]) (rest := []) (sX3_slides l G a0 (a1 + 1) a1 h _ _ _ e) he22 rfl rfl rfl rfl q2260 q2262 qs36 q118 q2263 (by decide +kernel) rfl rfl ⟨Nat.le_of_ble_eq_true rfl, Nat.le_of_ble_eq_true rfl⟩ rfl (Nat.le_of_ble_eq_true rfl) dX3_sliding_22) hf (fun r2 h c hf => ?_)
    refine sj_ifeq 34 hf dX3_sliding_25 (by decide) (fun g25 hf => ?_) (fun g25 hf => ?_)
    · refine sj_iconst (v := (-1)) dX3_sliding_34 (by decide) ?_
      exact sj_iret (o := sd_oI) hf rfl rfl rfl dX3_sliding_35
    · refine sj_iload_n 1 dX3_sliding_28 rfl ?_
      refine sj_iconst (v := 1) dX3_sliding_29 (by decide) ?_
      refine sj_iadd dX3_sliding_30 ?_
      refine sj_goto 35 dX3_sliding_31 (by decide) ?_
      exact sj_iret (o := sd_oI) hf rfl rfl rfl dX3_sliding_35
  · refine sj_iload_n 1 dX3_sliding_11 rfl ?_
    refine sj_iconst (v := 1) dX3_sliding_12 (by decide) ?_
    refine sj_isub dX3_sliding_13 ?_
    refine sj_goto 35 dX3_sliding_14 (by decide) ?_
    exact sj_iret (o := sd_oI) hf rfl rfl rfl dX3_sliding_35
/-! SofaDig$Sofa.settle()V -/
abbrev cX3_settle : ByteArray := prog_29_method_13_code
def yX3_settle : MethodName := ⟨RX3, "settle", "()V"⟩
def dkwX3_settle_3 : List UInt8 := [192, 0, 18, 45, 182, 0, 46, 87, 42, 89, 180, 0, 108, 4, 96, 181, 0, 108, 3, 60, 167, 255, 170, 177]
abbrev dktX3_settle_3 : List UInt8 := dkwX3_settle_3 ++ []
def dkwX3_settle_2 : List UInt8 := [182, 0, 58, 4, 100, 182, 0, 85, 87, 45, 4, 181, 0, 94, 42, 180, 0, 21, 27, 182, 0, 50]
abbrev dktX3_settle_2 : List UInt8 := dkwX3_settle_2 ++ dktX3_settle_3
def dkwX3_settle_1 : List UInt8 := [167, 255, 234, 42, 28, 182, 0, 81, 78, 42, 180, 0, 21, 28, 182, 0, 50, 192, 0, 18, 42, 28]
abbrev dktX3_settle_1 : List UInt8 := dkwX3_settle_1 ++ dktX3_settle_2
def dkwX3_settle_0 : List UInt8 := [3, 60, 27, 42, 180, 0, 15, 162, 0, 84, 42, 27, 182, 0, 105, 61, 28, 2, 160, 0, 9, 132, 1, 1]
abbrev dktX3_settle_0 : List UInt8 := dkwX3_settle_0 ++ dktX3_settle_1
theorem dksX3_settle_0 : cX3_settle.data.toList.drop 0 = dktX3_settle_0 := by decide +kernel
theorem dksX3_settle_1 : cX3_settle.data.toList.drop 24 = dktX3_settle_1 := dk_seg dksX3_settle_0 24 rfl rfl
theorem dksX3_settle_2 : cX3_settle.data.toList.drop 46 = dktX3_settle_2 := dk_seg dksX3_settle_1 22 rfl rfl
theorem dksX3_settle_3 : cX3_settle.data.toList.drop 68 = dktX3_settle_3 := dk_seg dksX3_settle_2 22 rfl rfl
theorem dX3_settle_0 : decode cX3_settle 0 = .ok (.iconst 0, 1) := dk_3 (dk_at dksX3_settle_0 0 rfl rfl)
theorem dX3_settle_1 : decode cX3_settle 1 = .ok (.istore_n 1, 1) := dk_60 (dk_at dksX3_settle_0 1 rfl rfl)
theorem dX3_settle_2 : decode cX3_settle 2 = .ok (.iload_n 1, 1) := dk_27 (dk_at dksX3_settle_0 2 rfl rfl)
theorem dX3_settle_3 : decode cX3_settle 3 = .ok (.aload_n 0, 1) := dk_42 (dk_at dksX3_settle_0 3 rfl rfl)
theorem dX3_settle_4 : decode cX3_settle 4 = .ok (.getfield 15, 3) := dk_180 0 15 (dk_at dksX3_settle_0 4 rfl rfl)
theorem dX3_settle_7 : decode cX3_settle 7 = .ok (.if_icmp .ge 84, 3) := dk_162 0 84 (dk_at dksX3_settle_0 7 rfl rfl)
theorem dX3_settle_10 : decode cX3_settle 10 = .ok (.aload_n 0, 1) := dk_42 (dk_at dksX3_settle_0 10 rfl rfl)
theorem dX3_settle_11 : decode cX3_settle 11 = .ok (.iload_n 1, 1) := dk_27 (dk_at dksX3_settle_0 11 rfl rfl)
theorem dX3_settle_12 : decode cX3_settle 12 = .ok (.invokevirtual 105, 3) := dk_182 0 105 (dk_at dksX3_settle_0 12 rfl rfl)
theorem dX3_settle_15 : decode cX3_settle 15 = .ok (.istore_n 2, 1) := dk_61 (dk_at dksX3_settle_0 15 rfl rfl)
theorem dX3_settle_16 : decode cX3_settle 16 = .ok (.iload_n 2, 1) := dk_28 (dk_at dksX3_settle_0 16 rfl rfl)
theorem dX3_settle_17 : decode cX3_settle 17 = .ok (.iconst (-1), 1) := dk_2 (dk_at dksX3_settle_0 17 rfl rfl)
theorem dX3_settle_18 : decode cX3_settle 18 = .ok (.if_icmp .ne 9, 3) := dk_160 0 9 (dk_at dksX3_settle_0 18 rfl rfl)
theorem dX3_settle_21 : decode cX3_settle 21 = .ok (.iinc 1 1, 3) := dk_132 1 1 (dk_at dksX3_settle_0 21 rfl rfl)
theorem dX3_settle_24 : decode cX3_settle 24 = .ok (.goto (-22), 3) := dk_167 255 234 (dk_at dksX3_settle_1 0 rfl rfl)
theorem dX3_settle_27 : decode cX3_settle 27 = .ok (.aload_n 0, 1) := dk_42 (dk_at dksX3_settle_1 3 rfl rfl)
theorem dX3_settle_28 : decode cX3_settle 28 = .ok (.iload_n 2, 1) := dk_28 (dk_at dksX3_settle_1 4 rfl rfl)
theorem dX3_settle_29 : decode cX3_settle 29 = .ok (.invokevirtual 81, 3) := dk_182 0 81 (dk_at dksX3_settle_1 5 rfl rfl)
theorem dX3_settle_32 : decode cX3_settle 32 = .ok (.astore_n 3, 1) := dk_78 (dk_at dksX3_settle_1 8 rfl rfl)
theorem dX3_settle_33 : decode cX3_settle 33 = .ok (.aload_n 0, 1) := dk_42 (dk_at dksX3_settle_1 9 rfl rfl)
theorem dX3_settle_34 : decode cX3_settle 34 = .ok (.getfield 21, 3) := dk_180 0 21 (dk_at dksX3_settle_1 10 rfl rfl)
theorem dX3_settle_37 : decode cX3_settle 37 = .ok (.iload_n 2, 1) := dk_28 (dk_at dksX3_settle_1 13 rfl rfl)
theorem dX3_settle_38 : decode cX3_settle 38 = .ok (.invokevirtual 50, 3) := dk_182 0 50 (dk_at dksX3_settle_1 14 rfl rfl)
theorem dX3_settle_41 : decode cX3_settle 41 = .ok (.checkcast 18, 3) := dk_192 0 18 (dk_at dksX3_settle_1 17 rfl rfl)
theorem dX3_settle_44 : decode cX3_settle 44 = .ok (.aload_n 0, 1) := dk_42 (dk_at dksX3_settle_1 20 rfl rfl)
theorem dX3_settle_45 : decode cX3_settle 45 = .ok (.iload_n 2, 1) := dk_28 (dk_at dksX3_settle_1 21 rfl rfl)
theorem dX3_settle_46 : decode cX3_settle 46 = .ok (.invokevirtual 58, 3) := dk_182 0 58 (dk_at dksX3_settle_2 0 rfl rfl)
theorem dX3_settle_49 : decode cX3_settle 49 = .ok (.iconst 1, 1) := dk_4 (dk_at dksX3_settle_2 3 rfl rfl)
theorem dX3_settle_50 : decode cX3_settle 50 = .ok (.isub, 1) := dk_100 (dk_at dksX3_settle_2 4 rfl rfl)
theorem dX3_settle_51 : decode cX3_settle 51 = .ok (.invokevirtual 85, 3) := dk_182 0 85 (dk_at dksX3_settle_2 5 rfl rfl)
theorem dX3_settle_54 : decode cX3_settle 54 = .ok (.pop, 1) := dk_87 (dk_at dksX3_settle_2 8 rfl rfl)
theorem dX3_settle_55 : decode cX3_settle 55 = .ok (.aload_n 3, 1) := dk_45 (dk_at dksX3_settle_2 9 rfl rfl)
theorem dX3_settle_56 : decode cX3_settle 56 = .ok (.iconst 1, 1) := dk_4 (dk_at dksX3_settle_2 10 rfl rfl)
theorem dX3_settle_57 : decode cX3_settle 57 = .ok (.putfield 94, 3) := dk_181 0 94 (dk_at dksX3_settle_2 11 rfl rfl)
theorem dX3_settle_60 : decode cX3_settle 60 = .ok (.aload_n 0, 1) := dk_42 (dk_at dksX3_settle_2 14 rfl rfl)
theorem dX3_settle_61 : decode cX3_settle 61 = .ok (.getfield 21, 3) := dk_180 0 21 (dk_at dksX3_settle_2 15 rfl rfl)
theorem dX3_settle_64 : decode cX3_settle 64 = .ok (.iload_n 1, 1) := dk_27 (dk_at dksX3_settle_2 18 rfl rfl)
theorem dX3_settle_65 : decode cX3_settle 65 = .ok (.invokevirtual 50, 3) := dk_182 0 50 (dk_at dksX3_settle_2 19 rfl rfl)
theorem dX3_settle_68 : decode cX3_settle 68 = .ok (.checkcast 18, 3) := dk_192 0 18 (dk_at dksX3_settle_3 0 rfl rfl)
theorem dX3_settle_71 : decode cX3_settle 71 = .ok (.aload_n 3, 1) := dk_45 (dk_at dksX3_settle_3 3 rfl rfl)
theorem dX3_settle_72 : decode cX3_settle 72 = .ok (.invokevirtual 46, 3) := dk_182 0 46 (dk_at dksX3_settle_3 4 rfl rfl)
theorem dX3_settle_75 : decode cX3_settle 75 = .ok (.pop, 1) := dk_87 (dk_at dksX3_settle_3 7 rfl rfl)
theorem dX3_settle_76 : decode cX3_settle 76 = .ok (.aload_n 0, 1) := dk_42 (dk_at dksX3_settle_3 8 rfl rfl)
theorem dX3_settle_77 : decode cX3_settle 77 = .ok (.dup, 1) := dk_89 (dk_at dksX3_settle_3 9 rfl rfl)
theorem dX3_settle_78 : decode cX3_settle 78 = .ok (.getfield 108, 3) := dk_180 0 108 (dk_at dksX3_settle_3 10 rfl rfl)
theorem dX3_settle_81 : decode cX3_settle 81 = .ok (.iconst 1, 1) := dk_4 (dk_at dksX3_settle_3 13 rfl rfl)
theorem dX3_settle_82 : decode cX3_settle 82 = .ok (.iadd, 1) := dk_96 (dk_at dksX3_settle_3 14 rfl rfl)
theorem dX3_settle_83 : decode cX3_settle 83 = .ok (.putfield 108, 3) := dk_181 0 108 (dk_at dksX3_settle_3 15 rfl rfl)
theorem dX3_settle_86 : decode cX3_settle 86 = .ok (.iconst 0, 1) := dk_3 (dk_at dksX3_settle_3 18 rfl rfl)
theorem dX3_settle_87 : decode cX3_settle 87 = .ok (.istore_n 1, 1) := dk_60 (dk_at dksX3_settle_3 19 rfl rfl)
theorem dX3_settle_88 : decode cX3_settle 88 = .ok (.goto (-86), 3) := dk_167 255 170 (dk_at dksX3_settle_3 20 rfl rfl)
theorem dX3_settle_91 : decode cX3_settle 91 = .ok (.return_, 1) := dk_177 (dk_at dksX3_settle_3 23 rfl rfl)
theorem fpX3_94_3 (n d : String) : sd_Fp ⟨"SofaDig$Sofa", n, d⟩ 94 3 3 .boolean := ⟨(RX4, TX4, 4), "SofaDig$Cushion", tyX4, rfl, by decide, rfl, in_X4, Or.inl rfl, tyX4_ok, nmX4, rfl, Or.inl ⟨rfl, Or.inr ⟨_, q326⟩⟩⟩
abbrev mX3_settle : sd_Y := (yX3_settle, cX3_settle, 4, none, none)
def fX3_settle_b2 (G : sd_G) (k2 : Nat × Int32 → sd_M Unit) (w0 : Nat) (w1 : Int32) : sd_M Unit :=
  sd_bnd (sd_getI G 2 1 w0) fun v1 =>
  if v1 ≤ w1 then (
    sd_ret ())
  else (
    sd_bnd (sd_isC G 2 w0) fun _ =>
    sd_bnd (fX3_sliding G w0 w1) fun r2 =>
    if r2 = (-1) then (
      sd_bnd (sd_ret (w1 + 1)) fun x12 =>
      k2 (w0, x12))
    else (
      sd_bnd (sd_isC G 2 w0) fun _ =>
      sd_bnd (fX3_top G w0 r2) fun r3 =>
      sd_bnd (sd_getR G 2 2 w0) fun v4 =>
      sd_bnd (sd_isC G 41 v4) fun _ =>
      sd_bnd (fJ2_get G v4 r2) fun r5 =>
      sd_bnd (sd_cast G [41] r5) fun _ =>
      sd_bnd (sd_isC G 2 w0) fun _ =>
      sd_bnd (fX3_height G w0 r2) fun r6 =>
      sd_bnd (sd_isC G 41 r5) fun _ =>
      sd_bnd (fJ2_remove G r5 (r6 - 1)) fun r7 =>
      sd_bnd (sd_put 3 3 .boolean r3 (.int 1)) fun _ =>
      sd_bnd (sd_getR G 2 2 w0) fun v8 =>
      sd_bnd (sd_isC G 41 v8) fun _ =>
      sd_bnd (fJ2_get G v8 w1) fun r9 =>
      sd_bnd (sd_cast G [41] r9) fun _ =>
      sd_bnd (sd_isC G 41 r9) fun _ =>
      sd_bnd (fJ2_add G r9 r3) fun r10 =>
      sd_bnd (sd_getI G 2 11 w0) fun v11 =>
      sd_bnd (sd_put 2 11 .int w0 (.int (v11 + 1))) fun _ =>
      k2 (w0, 0)))
set_option maxHeartbeats 4000000 in
theorem sX3_settle_b2 (l : Launch) (G : sd_G) (a0 : Nat) (ρ : Unit) (h2 : sd_H) (cT : Nat × Nat) (k2 : Nat × Int32 → sd_M Unit) (Hk2 : ∀ (q : Nat × Int32) (h : sd_H) (c : Nat × Nat), k2 q h = some (ρ, c, h2) → sd_J mX3_settle ((l, G), (7, 152), [.ref a0], (sd_oV ρ, h2), cT) 2 [(0, .ref q.1), (1, .int q.2)] [] h c) (w0 : Nat) (w1 : Int32) (h : sd_H) (c : Nat × Nat) (hf : fX3_settle_b2 G k2 w0 w1 h = some (ρ, c, h2)) : sd_J mX3_settle ((l, G), (7, 152), [.ref a0], (sd_oV ρ, h2), cT) 2 [(0, .ref w0), (1, .int w1)] [] h c := by
  unfold fX3_settle_b2 at hf
  refine sj_iload_n 1 dX3_settle_2 rfl ?_
  refine sj_aload_n 0 dX3_settle_3 rfl ?_
  refine sj_getI fdX3_15_2 hf dX3_settle_4 (fun v1 hf => ?_)
  refine sj_icge 91 hf dX3_settle_7 (by decide) (fun g7 hf => ?_) (fun g7 hf => ?_)
  · exact sj_vret (o := sd_oV) hf rfl rfl rfl dX3_settle_91
  · refine sj_aload_n 0 dX3_settle_10 rfl ?_
    refine sj_iload_n 1 dX3_settle_11 rfl ?_
    obtain ⟨fs12, he12, hf⟩ := sd_isC_some hf
    refine sj_cI (rest := []) (fun _ _ _ e => sj_runV (n := 1) (As := [.int w1]) (rest := []) (sX3_sliding l G w0 w1 h _ _ _ e) he12 rfl rfl rfl rfl q2256 q2258 qs35 q118 q2259 (by decide +kernel) rfl rfl ⟨Nat.le_of_ble_eq_true rfl, Nat.le_of_ble_eq_true rfl⟩ rfl (Nat.le_of_ble_eq_true rfl) dX3_settle_12) hf (fun r2 h c hf => ?_)
    refine sj_istore_n [(2, .int r2), (0, .ref w0), (1, .int w1)] dX3_settle_15 (by decide) rfl ?_
    refine sj_iload_n 0 dX3_settle_16 rfl ?_
    refine sj_iconst (v := (-1)) dX3_settle_17 (by decide) ?_
    refine sj_icne 27 hf dX3_settle_18 (by decide) (fun g18 hf => ?_) (fun g18 hf => ?_)
    · refine sj_aload_n 1 dX3_settle_27 rfl ?_
      refine sj_iload_n 0 dX3_settle_28 rfl ?_
      obtain ⟨fs29, he29, hf⟩ := sd_isC_some hf
      refine sj_cR (rest := []) (fun _ _ _ e => sj_runV (n := 1) (As := [.int r2]) (rest := []) (sX3_top l G w0 r2 h _ _ _ e) he29 rfl rfl rfl rfl q2239 q2240 q2241 q118 q2242 (by decide +kernel) rfl rfl ⟨Nat.le_of_ble_eq_true rfl, Nat.le_of_ble_eq_true rfl⟩ rfl (Nat.le_of_ble_eq_true rfl) dX3_settle_29) hf (fun r3 h c hf => ?_)
      refine sj_astore_n [(3, .ref r3), (2, .int r2), (0, .ref w0), (1, .int w1)] dX3_settle_32 (by decide) rfl ?_
      refine sj_aload_n 2 dX3_settle_33 rfl ?_
      refine sj_getR fdX3_21_2 hf dX3_settle_34 (fun v4 hf => ?_)
      refine sj_iload_n 1 dX3_settle_37 rfl ?_
      obtain ⟨fs38, he38, hf⟩ := sd_isC_some hf
      refine sj_cR (rest := []) (fun _ _ _ e => sj_runV (n := 1) (As := [.int r2]) (rest := []) (sJ2_get l G v4 r2 h _ _ _ e) he38 rfl rfl rfl rfl q2158 q1002 q3425 q121 q1004 (by decide +kernel) rfl rfl ⟨Nat.le_of_ble_eq_true rfl, Nat.le_of_ble_eq_true rfl⟩ rfl (Nat.le_of_ble_eq_true rfl) dX3_settle_38) hf (fun r5 h c hf => ?_)
      obtain ⟨ci41, fs41, he41, hm41, hf⟩ := sd_cast_some hf
      refine sj_cast he41 hm41 fc_java_util_ArrayList q212 dX3_settle_41 ?_
      refine sj_aload_n 2 dX3_settle_44 rfl ?_
      refine sj_iload_n 1 dX3_settle_45 rfl ?_
      obtain ⟨fs46, he46, hf⟩ := sd_isC_some hf
      refine sj_cI (rest := [.ref r5]) (fun _ _ _ e => sj_runV (n := 1) (As := [.int r2]) (rest := [.ref r5]) (sX3_height l G w0 r2 h _ _ _ e) he46 rfl rfl rfl rfl q2243 q2155 q2156 q118 q2157 (by decide +kernel) rfl rfl ⟨Nat.le_of_ble_eq_true rfl, Nat.le_of_ble_eq_true rfl⟩ rfl (Nat.le_of_ble_eq_true rfl) dX3_settle_46) hf (fun r6 h c hf => ?_)
      refine sj_iconst (v := 1) dX3_settle_49 (by decide) ?_
      refine sj_isub dX3_settle_50 ?_
      obtain ⟨fs51, he51, hf⟩ := sd_isC_some hf
      refine sj_cR (rest := []) (fun _ _ _ e => sj_runV (n := 1) (As := [.int (r6 - 1)]) (rest := []) (sJ2_remove l G r5 (r6 - 1) h _ _ _ e) he51 rfl rfl rfl rfl q2244 q2245 q2246 q121 q2247 (by decide +kernel) rfl rfl ⟨Nat.le_of_ble_eq_true rfl, Nat.le_of_ble_eq_true rfl⟩ rfl (Nat.le_of_ble_eq_true rfl) dX3_settle_51) hf (fun r7 h c hf => ?_)
      refine sj_pop dX3_settle_54 rfl ?_
      refine sj_aload_n 0 dX3_settle_55 rfl ?_
      refine sj_iconst (v := 1) dX3_settle_56 (by decide) ?_
      refine sj_put (fpX3_94_3 _ _) hf dX3_settle_57 (fun h hf => ?_)
      refine sj_aload_n 2 dX3_settle_60 rfl ?_
      refine sj_getR fdX3_21_2 hf dX3_settle_61 (fun v8 hf => ?_)
      refine sj_iload_n 3 dX3_settle_64 rfl ?_
      obtain ⟨fs65, he65, hf⟩ := sd_isC_some hf
      refine sj_cR (rest := []) (fun _ _ _ e => sj_runV (n := 1) (As := [.int w1]) (rest := []) (sJ2_get l G v8 w1 h _ _ _ e) he65 rfl rfl rfl rfl q2158 q1002 q3425 q121 q1004 (by decide +kernel) rfl rfl ⟨Nat.le_of_ble_eq_true rfl, Nat.le_of_ble_eq_true rfl⟩ rfl (Nat.le_of_ble_eq_true rfl) dX3_settle_65) hf (fun r9 h c hf => ?_)
      obtain ⟨ci68, fs68, he68, hm68, hf⟩ := sd_cast_some hf
      refine sj_cast he68 hm68 fc_java_util_ArrayList q212 dX3_settle_68 ?_
      refine sj_aload_n 0 dX3_settle_71 rfl ?_
      obtain ⟨fs72, he72, hf⟩ := sd_isC_some hf
      refine sj_cI (rest := []) (fun _ _ _ e => sj_runV (n := 1) (As := [.ref r3]) (rest := []) (sJ2_add l G r9 r3 h _ _ _ e) he72 rfl rfl rfl rfl q337 q338 q339 q121 q340 (by decide +kernel) rfl rfl ⟨Nat.le_of_ble_eq_true rfl, Nat.le_of_ble_eq_true rfl⟩ rfl (Nat.le_of_ble_eq_true rfl) dX3_settle_72) hf (fun r10 h c hf => ?_)
      refine sj_pop dX3_settle_75 rfl ?_
      refine sj_aload_n 2 dX3_settle_76 rfl ?_
      refine sj_dup dX3_settle_77 rfl ?_
      refine sj_getI fdX3_108_2 hf dX3_settle_78 (fun v11 hf => ?_)
      refine sj_iconst (v := 1) dX3_settle_81 (by decide) ?_
      refine sj_iadd dX3_settle_82 ?_
      refine sj_put (fpX3_108_2 _ _) hf dX3_settle_83 (fun h hf => ?_)
      refine sj_iconst (v := 0) dX3_settle_86 (by decide) ?_
      refine sj_istore_n [(1, .int 0), (3, .ref r3), (2, .int r2), (0, .ref w0)] dX3_settle_87 (by decide) rfl ?_
      refine sj_goto 2 dX3_settle_88 (by decide) ?_
      exact sj_loc [3, 0] rfl (Hk2 (w0, 0) _ _ hf)
    · refine sj_iincN 2 (fun x12 => [(1, .int x12), (2, .int r2), (0, .ref w0)]) 1 hf dX3_settle_21 rfl (by decide) (by decide) (fun _ => rfl) (fun x12 hf => ?_)
      refine sj_goto 2 dX3_settle_24 (by decide) ?_
      exact sj_loc [2, 0] rfl (Hk2 (w0, x12) _ _ hf)
theorem sX3_settle_b2_loop (l : Launch) (G : sd_G) (a0 : Nat) (ρ : Unit) (h2 : sd_H) (cT : Nat × Nat) (n : Nat) : ∀ (q : Nat × Int32) (h : sd_H) (c : Nat × Nat), sd_loop (fun k s => fX3_settle_b2 G k s.1 s.2) n q h = some (ρ, c, h2) → sd_J mX3_settle ((l, G), (7, 152), [.ref a0], (sd_oV ρ, h2), cT) 2 [(0, .ref q.1), (1, .int q.2)] [] h c := by
  induction n with
  | zero => intro q h c hf; cases hf
  | succ n ih => intro q h c hf; exact sX3_settle_b2 l G a0 ρ h2 cT _ ih _ _ _ _ hf
def fX3_settle (G : sd_G) (a0 : Nat) : sd_M Unit :=
  sd_loop (fun k s => fX3_settle_b2 G k s.1 s.2) sd_FU (a0, 0)
set_option maxHeartbeats 4000000 in
theorem sX3_settle (l : Launch) (G : sd_G) (a0 : Nat) (h : sd_H) (ρ : Unit) (cT : Nat × Nat) (h2 : sd_H) (hf : fX3_settle G a0 h = some (ρ, cT, h2)) : sd_Met mX3_settle ((l, G), (7, 152), [.ref a0], (sd_oV ρ, h2), cT) h := by
  refine sd_entry (plainFor_of_name rfl) rfl (Nat.le_of_ble_eq_true rfl) ?_
  show sd_J mX3_settle ((l, G), (7, 152), [.ref a0], (sd_oV ρ, h2), cT) 0 [(0, .ref a0)] [] h cT
  unfold fX3_settle at hf
  refine sj_iconst (v := 0) dX3_settle_0 (by decide) ?_
  refine sj_istore_n [(1, .int 0), (0, .ref a0)] dX3_settle_1 (by decide) rfl ?_
  exact sj_loc [1, 0] rfl (sX3_settle_b2_loop l G a0 ρ h2 cT sd_FU (a0, 0) _ _ hf)
/-! SofaDig$Sofa.dig(I)I -/
abbrev cX3_dig : ByteArray := prog_29_method_10_code
def yX3_dig : MethodName := ⟨RX3, "dig", "(I)I"⟩
def dkwX3_dig_3 : List UInt8 := [44, 180, 0, 91, 172]
abbrev dktX3_dig_3 : List UInt8 := dkwX3_dig_3 ++ []
def dkwX3_dig_2 : List UInt8 := [180, 0, 34, 44, 180, 0, 91, 44, 180, 0, 94, 153, 0, 7, 5, 167, 0, 4, 4, 79, 42, 182, 0, 78]
abbrev dktX3_dig_2 : List UInt8 := dkwX3_dig_2 ++ dktX3_dig_3
def dkwX3_dig_1 : List UInt8 := [182, 0, 85, 87, 42, 89, 180, 0, 88, 4, 96, 181, 0, 88, 44, 180, 0, 91, 2, 159, 0, 24, 42]
abbrev dktX3_dig_1 : List UInt8 := dkwX3_dig_1 ++ dktX3_dig_2
def dkwX3_dig_0 : List UInt8 := [42, 27, 182, 0, 81, 77, 42, 180, 0, 21, 27, 182, 0, 50, 192, 0, 18, 42, 27, 182, 0, 58, 4, 100]
abbrev dktX3_dig_0 : List UInt8 := dkwX3_dig_0 ++ dktX3_dig_1
theorem dksX3_dig_0 : cX3_dig.data.toList.drop 0 = dktX3_dig_0 := by decide +kernel
theorem dksX3_dig_1 : cX3_dig.data.toList.drop 24 = dktX3_dig_1 := dk_seg dksX3_dig_0 24 rfl rfl
theorem dksX3_dig_2 : cX3_dig.data.toList.drop 47 = dktX3_dig_2 := dk_seg dksX3_dig_1 23 rfl rfl
theorem dksX3_dig_3 : cX3_dig.data.toList.drop 71 = dktX3_dig_3 := dk_seg dksX3_dig_2 24 rfl rfl
theorem dX3_dig_0 : decode cX3_dig 0 = .ok (.aload_n 0, 1) := dk_42 (dk_at dksX3_dig_0 0 rfl rfl)
theorem dX3_dig_1 : decode cX3_dig 1 = .ok (.iload_n 1, 1) := dk_27 (dk_at dksX3_dig_0 1 rfl rfl)
theorem dX3_dig_2 : decode cX3_dig 2 = .ok (.invokevirtual 81, 3) := dk_182 0 81 (dk_at dksX3_dig_0 2 rfl rfl)
theorem dX3_dig_5 : decode cX3_dig 5 = .ok (.astore_n 2, 1) := dk_77 (dk_at dksX3_dig_0 5 rfl rfl)
theorem dX3_dig_6 : decode cX3_dig 6 = .ok (.aload_n 0, 1) := dk_42 (dk_at dksX3_dig_0 6 rfl rfl)
theorem dX3_dig_7 : decode cX3_dig 7 = .ok (.getfield 21, 3) := dk_180 0 21 (dk_at dksX3_dig_0 7 rfl rfl)
theorem dX3_dig_10 : decode cX3_dig 10 = .ok (.iload_n 1, 1) := dk_27 (dk_at dksX3_dig_0 10 rfl rfl)
theorem dX3_dig_11 : decode cX3_dig 11 = .ok (.invokevirtual 50, 3) := dk_182 0 50 (dk_at dksX3_dig_0 11 rfl rfl)
theorem dX3_dig_14 : decode cX3_dig 14 = .ok (.checkcast 18, 3) := dk_192 0 18 (dk_at dksX3_dig_0 14 rfl rfl)
theorem dX3_dig_17 : decode cX3_dig 17 = .ok (.aload_n 0, 1) := dk_42 (dk_at dksX3_dig_0 17 rfl rfl)
theorem dX3_dig_18 : decode cX3_dig 18 = .ok (.iload_n 1, 1) := dk_27 (dk_at dksX3_dig_0 18 rfl rfl)
theorem dX3_dig_19 : decode cX3_dig 19 = .ok (.invokevirtual 58, 3) := dk_182 0 58 (dk_at dksX3_dig_0 19 rfl rfl)
theorem dX3_dig_22 : decode cX3_dig 22 = .ok (.iconst 1, 1) := dk_4 (dk_at dksX3_dig_0 22 rfl rfl)
theorem dX3_dig_23 : decode cX3_dig 23 = .ok (.isub, 1) := dk_100 (dk_at dksX3_dig_0 23 rfl rfl)
theorem dX3_dig_24 : decode cX3_dig 24 = .ok (.invokevirtual 85, 3) := dk_182 0 85 (dk_at dksX3_dig_1 0 rfl rfl)
theorem dX3_dig_27 : decode cX3_dig 27 = .ok (.pop, 1) := dk_87 (dk_at dksX3_dig_1 3 rfl rfl)
theorem dX3_dig_28 : decode cX3_dig 28 = .ok (.aload_n 0, 1) := dk_42 (dk_at dksX3_dig_1 4 rfl rfl)
theorem dX3_dig_29 : decode cX3_dig 29 = .ok (.dup, 1) := dk_89 (dk_at dksX3_dig_1 5 rfl rfl)
theorem dX3_dig_30 : decode cX3_dig 30 = .ok (.getfield 88, 3) := dk_180 0 88 (dk_at dksX3_dig_1 6 rfl rfl)
theorem dX3_dig_33 : decode cX3_dig 33 = .ok (.iconst 1, 1) := dk_4 (dk_at dksX3_dig_1 9 rfl rfl)
theorem dX3_dig_34 : decode cX3_dig 34 = .ok (.iadd, 1) := dk_96 (dk_at dksX3_dig_1 10 rfl rfl)
theorem dX3_dig_35 : decode cX3_dig 35 = .ok (.putfield 88, 3) := dk_181 0 88 (dk_at dksX3_dig_1 11 rfl rfl)
theorem dX3_dig_38 : decode cX3_dig 38 = .ok (.aload_n 2, 1) := dk_44 (dk_at dksX3_dig_1 14 rfl rfl)
theorem dX3_dig_39 : decode cX3_dig 39 = .ok (.getfield 91, 3) := dk_180 0 91 (dk_at dksX3_dig_1 15 rfl rfl)
theorem dX3_dig_42 : decode cX3_dig 42 = .ok (.iconst (-1), 1) := dk_2 (dk_at dksX3_dig_1 18 rfl rfl)
theorem dX3_dig_43 : decode cX3_dig 43 = .ok (.if_icmp .eq 24, 3) := dk_159 0 24 (dk_at dksX3_dig_1 19 rfl rfl)
theorem dX3_dig_46 : decode cX3_dig 46 = .ok (.aload_n 0, 1) := dk_42 (dk_at dksX3_dig_1 22 rfl rfl)
theorem dX3_dig_47 : decode cX3_dig 47 = .ok (.getfield 34, 3) := dk_180 0 34 (dk_at dksX3_dig_2 0 rfl rfl)
theorem dX3_dig_50 : decode cX3_dig 50 = .ok (.aload_n 2, 1) := dk_44 (dk_at dksX3_dig_2 3 rfl rfl)
theorem dX3_dig_51 : decode cX3_dig 51 = .ok (.getfield 91, 3) := dk_180 0 91 (dk_at dksX3_dig_2 4 rfl rfl)
theorem dX3_dig_54 : decode cX3_dig 54 = .ok (.aload_n 2, 1) := dk_44 (dk_at dksX3_dig_2 7 rfl rfl)
theorem dX3_dig_55 : decode cX3_dig 55 = .ok (.getfield 94, 3) := dk_180 0 94 (dk_at dksX3_dig_2 8 rfl rfl)
theorem dX3_dig_58 : decode cX3_dig 58 = .ok (.ifCond .eq 7, 3) := dk_153 0 7 (dk_at dksX3_dig_2 11 rfl rfl)
theorem dX3_dig_61 : decode cX3_dig 61 = .ok (.iconst 2, 1) := dk_5 (dk_at dksX3_dig_2 14 rfl rfl)
theorem dX3_dig_62 : decode cX3_dig 62 = .ok (.goto 4, 3) := dk_167 0 4 (dk_at dksX3_dig_2 15 rfl rfl)
theorem dX3_dig_65 : decode cX3_dig 65 = .ok (.iconst 1, 1) := dk_4 (dk_at dksX3_dig_2 18 rfl rfl)
theorem dX3_dig_66 : decode cX3_dig 66 = .ok (.iastore, 1) := dk_79 (dk_at dksX3_dig_2 19 rfl rfl)
theorem dX3_dig_67 : decode cX3_dig 67 = .ok (.aload_n 0, 1) := dk_42 (dk_at dksX3_dig_2 20 rfl rfl)
theorem dX3_dig_68 : decode cX3_dig 68 = .ok (.invokevirtual 78, 3) := dk_182 0 78 (dk_at dksX3_dig_2 21 rfl rfl)
theorem dX3_dig_71 : decode cX3_dig 71 = .ok (.aload_n 2, 1) := dk_44 (dk_at dksX3_dig_3 0 rfl rfl)
theorem dX3_dig_72 : decode cX3_dig 72 = .ok (.getfield 91, 3) := dk_180 0 91 (dk_at dksX3_dig_3 1 rfl rfl)
theorem dX3_dig_75 : decode cX3_dig 75 = .ok (.ireturn, 1) := dk_172 (dk_at dksX3_dig_3 4 rfl rfl)
theorem fdX3_91_3 : sd_Fd "SofaDig$Sofa" 91 3 1 := ⟨(RX4, TX4, 4), "SofaDig$Cushion", rfl, by decide, rfl, in_X4, Or.inl rfl, Or.inr ⟨_, q319⟩⟩
theorem fdX3_94_3 : sd_Fd "SofaDig$Sofa" 94 3 3 := ⟨(RX4, TX4, 4), "SofaDig$Cushion", rfl, by decide, rfl, in_X4, Or.inl rfl, Or.inr ⟨_, q326⟩⟩
abbrev mX3_dig : sd_Y := (yX3_dig, cX3_dig, 3, some (.int), none)
def fX3_dig_b66 (G : sd_G) (w0 : Nat) (w2 : Nat) (y0 : Int32) (y1 : Int32) (y2 : Nat) : sd_M Int32 :=
  sd_bnd (sd_astI 0 y2 y1 y0) fun _ =>
  sd_bnd (sd_isC G 2 w0) fun _ =>
  sd_bnd (fX3_settle G w0) fun _ =>
  sd_bnd (sd_getI G 3 1 w2) fun v12 =>
  sd_ret v12
set_option maxHeartbeats 4000000 in
theorem sX3_dig_b66 (l : Launch) (G : sd_G) (a0 : Nat) (a1 : Int32) (ρ : Int32) (h2 : sd_H) (cT : Nat × Nat) (w0 : Nat) (w2 : Nat) (y0 : Int32) (y1 : Int32) (y2 : Nat) (h : sd_H) (c : Nat × Nat) (hf : fX3_dig_b66 G w0 w2 y0 y1 y2 h = some (ρ, c, h2)) : sd_J mX3_dig ((l, G), (8, 175), [.ref a0, .int a1], (sd_oI ρ, h2), cT) 66 [(0, .ref w0), (2, .ref w2)] [.int y0, .int y1, .ref y2] h c := by
  unfold fX3_dig_b66 at hf
  refine sj_iast hf dX3_dig_66 (fun h hf => ?_)
  refine sj_aload_n 0 dX3_dig_67 rfl ?_
  obtain ⟨fs68, he68, hf⟩ := sd_isC_some hf
  refine sj_cV (rest := []) (fun _ _ _ e => sj_runV (n := 0) (As := []) (rest := []) (sX3_settle l G w0 h _ _ _ e) he68 rfl rfl rfl rfl q2252 q2254 qs34 q118 q2255 (by decide +kernel) rfl rfl ⟨Nat.le_of_ble_eq_true rfl, Nat.le_of_ble_eq_true rfl⟩ rfl (Nat.le_of_ble_eq_true rfl) dX3_dig_68) hf (fun h c hf => ?_)
  refine sj_aload_n 1 dX3_dig_71 rfl ?_
  refine sj_getI fdX3_91_3 hf dX3_dig_72 (fun v12 hf => ?_)
  exact sj_iret (o := sd_oI) hf rfl rfl rfl dX3_dig_75
def fX3_dig (G : sd_G) (a0 : Nat) (a1 : Int32) : sd_M Int32 :=
  sd_bnd (sd_isC G 2 a0) fun _ =>
  sd_bnd (fX3_top G a0 a1) fun r1 =>
  sd_bnd (sd_getR G 2 2 a0) fun v2 =>
  sd_bnd (sd_isC G 41 v2) fun _ =>
  sd_bnd (fJ2_get G v2 a1) fun r3 =>
  sd_bnd (sd_cast G [41] r3) fun _ =>
  sd_bnd (sd_isC G 2 a0) fun _ =>
  sd_bnd (fX3_height G a0 a1) fun r4 =>
  sd_bnd (sd_isC G 41 r3) fun _ =>
  sd_bnd (fJ2_remove G r3 (r4 - 1)) fun r5 =>
  sd_bnd (sd_getI G 2 10 a0) fun v6 =>
  sd_bnd (sd_put 2 10 .int a0 (.int (v6 + 1))) fun _ =>
  sd_bnd (sd_getI G 3 1 r1) fun v7 =>
  if v7 = (-1) then (
    sd_bnd (sd_isC G 2 a0) fun _ =>
    sd_bnd (fX3_settle G a0) fun _ =>
    sd_bnd (sd_getI G 3 1 r1) fun v8 =>
    sd_ret v8)
  else (
    sd_bnd (sd_getR G 2 6 a0) fun v9 =>
    sd_bnd (sd_getI G 3 1 r1) fun v10 =>
    sd_bnd (sd_getI G 3 3 r1) fun v11 =>
    if v11 = 0 then (
      fX3_dig_b66 G a0 r1 1 v10 v9)
    else (
      fX3_dig_b66 G a0 r1 2 v10 v9))
set_option maxHeartbeats 4000000 in
theorem sX3_dig (l : Launch) (G : sd_G) (a0 : Nat) (a1 : Int32) (h : sd_H) (ρ : Int32) (cT : Nat × Nat) (h2 : sd_H) (hf : fX3_dig G a0 a1 h = some (ρ, cT, h2)) : sd_Met mX3_dig ((l, G), (8, 175), [.ref a0, .int a1], (sd_oI ρ, h2), cT) h := by
  refine sd_entry (plainFor_of_name rfl) rfl (Nat.le_of_ble_eq_true rfl) ?_
  show sd_J mX3_dig ((l, G), (8, 175), [.ref a0, .int a1], (sd_oI ρ, h2), cT) 0 [(0, .ref a0), (1, .int a1)] [] h cT
  unfold fX3_dig at hf
  refine sj_aload_n 0 dX3_dig_0 rfl ?_
  refine sj_iload_n 1 dX3_dig_1 rfl ?_
  obtain ⟨fs2, he2, hf⟩ := sd_isC_some hf
  refine sj_cR (rest := []) (fun _ _ _ e => sj_runV (n := 1) (As := [.int a1]) (rest := []) (sX3_top l G a0 a1 h _ _ _ e) he2 rfl rfl rfl rfl q2239 q2240 q2241 q118 q2242 (by decide +kernel) rfl rfl ⟨Nat.le_of_ble_eq_true rfl, Nat.le_of_ble_eq_true rfl⟩ rfl (Nat.le_of_ble_eq_true rfl) dX3_dig_2) hf (fun r1 h c hf => ?_)
  refine sj_astore_n [(2, .ref r1), (0, .ref a0), (1, .int a1)] dX3_dig_5 (by decide) rfl ?_
  refine sj_aload_n 1 dX3_dig_6 rfl ?_
  refine sj_getR fdX3_21_2 hf dX3_dig_7 (fun v2 hf => ?_)
  refine sj_iload_n 2 dX3_dig_10 rfl ?_
  obtain ⟨fs11, he11, hf⟩ := sd_isC_some hf
  refine sj_cR (rest := []) (fun _ _ _ e => sj_runV (n := 1) (As := [.int a1]) (rest := []) (sJ2_get l G v2 a1 h _ _ _ e) he11 rfl rfl rfl rfl q2158 q1002 q3425 q121 q1004 (by decide +kernel) rfl rfl ⟨Nat.le_of_ble_eq_true rfl, Nat.le_of_ble_eq_true rfl⟩ rfl (Nat.le_of_ble_eq_true rfl) dX3_dig_11) hf (fun r3 h c hf => ?_)
  obtain ⟨ci14, fs14, he14, hm14, hf⟩ := sd_cast_some hf
  refine sj_cast he14 hm14 fc_java_util_ArrayList q212 dX3_dig_14 ?_
  refine sj_aload_n 1 dX3_dig_17 rfl ?_
  refine sj_iload_n 2 dX3_dig_18 rfl ?_
  obtain ⟨fs19, he19, hf⟩ := sd_isC_some hf
  refine sj_cI (rest := [.ref r3]) (fun _ _ _ e => sj_runV (n := 1) (As := [.int a1]) (rest := [.ref r3]) (sX3_height l G a0 a1 h _ _ _ e) he19 rfl rfl rfl rfl q2243 q2155 q2156 q118 q2157 (by decide +kernel) rfl rfl ⟨Nat.le_of_ble_eq_true rfl, Nat.le_of_ble_eq_true rfl⟩ rfl (Nat.le_of_ble_eq_true rfl) dX3_dig_19) hf (fun r4 h c hf => ?_)
  refine sj_iconst (v := 1) dX3_dig_22 (by decide) ?_
  refine sj_isub dX3_dig_23 ?_
  obtain ⟨fs24, he24, hf⟩ := sd_isC_some hf
  refine sj_cR (rest := []) (fun _ _ _ e => sj_runV (n := 1) (As := [.int (r4 - 1)]) (rest := []) (sJ2_remove l G r3 (r4 - 1) h _ _ _ e) he24 rfl rfl rfl rfl q2244 q2245 q2246 q121 q2247 (by decide +kernel) rfl rfl ⟨Nat.le_of_ble_eq_true rfl, Nat.le_of_ble_eq_true rfl⟩ rfl (Nat.le_of_ble_eq_true rfl) dX3_dig_24) hf (fun r5 h c hf => ?_)
  refine sj_pop dX3_dig_27 rfl ?_
  refine sj_aload_n 1 dX3_dig_28 rfl ?_
  refine sj_dup dX3_dig_29 rfl ?_
  refine sj_getI fdX3_88_2 hf dX3_dig_30 (fun v6 hf => ?_)
  refine sj_iconst (v := 1) dX3_dig_33 (by decide) ?_
  refine sj_iadd dX3_dig_34 ?_
  refine sj_put (fpX3_88_2 _ _) hf dX3_dig_35 (fun h hf => ?_)
  refine sj_aload_n 0 dX3_dig_38 rfl ?_
  refine sj_getI fdX3_91_3 hf dX3_dig_39 (fun v7 hf => ?_)
  refine sj_iconst (v := (-1)) dX3_dig_42 (by decide) ?_
  refine sj_iceq 67 hf dX3_dig_43 (by decide) (fun g43 hf => ?_) (fun g43 hf => ?_)
  · refine sj_aload_n 1 dX3_dig_67 rfl ?_
    obtain ⟨fs68, he68, hf⟩ := sd_isC_some hf
    refine sj_cV (rest := []) (fun _ _ _ e => sj_runV (n := 0) (As := []) (rest := []) (sX3_settle l G a0 h _ _ _ e) he68 rfl rfl rfl rfl q2252 q2254 qs34 q118 q2255 (by decide +kernel) rfl rfl ⟨Nat.le_of_ble_eq_true rfl, Nat.le_of_ble_eq_true rfl⟩ rfl (Nat.le_of_ble_eq_true rfl) dX3_dig_68) hf (fun h c hf => ?_)
    refine sj_aload_n 0 dX3_dig_71 rfl ?_
    refine sj_getI fdX3_91_3 hf dX3_dig_72 (fun v8 hf => ?_)
    exact sj_iret (o := sd_oI) hf rfl rfl rfl dX3_dig_75
  · refine sj_aload_n 1 dX3_dig_46 rfl ?_
    refine sj_getR fdX3_34_2 hf dX3_dig_47 (fun v9 hf => ?_)
    refine sj_aload_n 0 dX3_dig_50 rfl ?_
    refine sj_getI fdX3_91_3 hf dX3_dig_51 (fun v10 hf => ?_)
    refine sj_aload_n 0 dX3_dig_54 rfl ?_
    refine sj_getI fdX3_94_3 hf dX3_dig_55 (fun v11 hf => ?_)
    refine sj_ifeq 65 hf dX3_dig_58 (by decide) (fun g58 hf => ?_) (fun g58 hf => ?_)
    · refine sj_iconst (v := 1) dX3_dig_65 (by decide) ?_
      exact sj_loc [1, 0] rfl (sX3_dig_b66 l G a0 a1 ρ h2 cT a0 r1 1 v10 v9 _ _ hf)
    · refine sj_iconst (v := 2) dX3_dig_61 (by decide) ?_
      refine sj_goto 66 dX3_dig_62 (by decide) ?_
      exact sj_loc [1, 0] rfl (sX3_dig_b66 l G a0 a1 ρ h2 cT a0 r1 2 v10 v9 _ _ hf)
/-! SofaDig$Sofa.left(I)I -/
abbrev cX3_left : ByteArray := prog_29_method_16_code
def yX3_left : MethodName := ⟨RX3, "left", "(I)I"⟩
def dkwX3_left_2 : List UInt8 := [3, 167, 0, 4, 4, 96, 61, 167, 255, 219, 28, 172]
abbrev dktX3_left_2 : List UInt8 := dkwX3_left_2 ++ []
def dkwX3_left_1 : List UInt8 := [153, 0, 34, 45, 185, 0, 120, 1, 0, 192, 0, 41, 58, 4, 28, 25, 4, 180, 0, 91, 2, 160, 0, 7]
abbrev dktX3_left_1 : List UInt8 := dkwX3_left_1 ++ dktX3_left_2
def dkwX3_left_0 : List UInt8 := [3, 61, 42, 180, 0, 21, 27, 182, 0, 50, 192, 0, 18, 182, 0, 110, 78, 45, 185, 0, 114, 1, 0]
abbrev dktX3_left_0 : List UInt8 := dkwX3_left_0 ++ dktX3_left_1
theorem dksX3_left_0 : cX3_left.data.toList.drop 0 = dktX3_left_0 := by decide +kernel
theorem dksX3_left_1 : cX3_left.data.toList.drop 23 = dktX3_left_1 := dk_seg dksX3_left_0 23 rfl rfl
theorem dksX3_left_2 : cX3_left.data.toList.drop 47 = dktX3_left_2 := dk_seg dksX3_left_1 24 rfl rfl
theorem dX3_left_0 : decode cX3_left 0 = .ok (.iconst 0, 1) := dk_3 (dk_at dksX3_left_0 0 rfl rfl)
theorem dX3_left_1 : decode cX3_left 1 = .ok (.istore_n 2, 1) := dk_61 (dk_at dksX3_left_0 1 rfl rfl)
theorem dX3_left_2 : decode cX3_left 2 = .ok (.aload_n 0, 1) := dk_42 (dk_at dksX3_left_0 2 rfl rfl)
theorem dX3_left_3 : decode cX3_left 3 = .ok (.getfield 21, 3) := dk_180 0 21 (dk_at dksX3_left_0 3 rfl rfl)
theorem dX3_left_6 : decode cX3_left 6 = .ok (.iload_n 1, 1) := dk_27 (dk_at dksX3_left_0 6 rfl rfl)
theorem dX3_left_7 : decode cX3_left 7 = .ok (.invokevirtual 50, 3) := dk_182 0 50 (dk_at dksX3_left_0 7 rfl rfl)
theorem dX3_left_10 : decode cX3_left 10 = .ok (.checkcast 18, 3) := dk_192 0 18 (dk_at dksX3_left_0 10 rfl rfl)
theorem dX3_left_13 : decode cX3_left 13 = .ok (.invokevirtual 110, 3) := dk_182 0 110 (dk_at dksX3_left_0 13 rfl rfl)
theorem dX3_left_16 : decode cX3_left 16 = .ok (.astore_n 3, 1) := dk_78 (dk_at dksX3_left_0 16 rfl rfl)
theorem dX3_left_17 : decode cX3_left 17 = .ok (.aload_n 3, 1) := dk_45 (dk_at dksX3_left_0 17 rfl rfl)
theorem dX3_left_18 : decode cX3_left 18 = .ok (.invokeinterface 114 1, 5) := by decide +kernel
theorem dX3_left_23 : decode cX3_left 23 = .ok (.ifCond .eq 34, 3) := dk_153 0 34 (dk_at dksX3_left_1 0 rfl rfl)
theorem dX3_left_26 : decode cX3_left 26 = .ok (.aload_n 3, 1) := dk_45 (dk_at dksX3_left_1 3 rfl rfl)
theorem dX3_left_27 : decode cX3_left 27 = .ok (.invokeinterface 120 1, 5) := by decide +kernel
theorem dX3_left_32 : decode cX3_left 32 = .ok (.checkcast 41, 3) := dk_192 0 41 (dk_at dksX3_left_1 9 rfl rfl)
theorem dX3_left_35 : decode cX3_left 35 = .ok (.astore 4, 2) := dk_58 4 (dk_at dksX3_left_1 12 rfl rfl)
theorem dX3_left_37 : decode cX3_left 37 = .ok (.iload_n 2, 1) := dk_28 (dk_at dksX3_left_1 14 rfl rfl)
theorem dX3_left_38 : decode cX3_left 38 = .ok (.aload 4, 2) := dk_25 4 (dk_at dksX3_left_1 15 rfl rfl)
theorem dX3_left_40 : decode cX3_left 40 = .ok (.getfield 91, 3) := dk_180 0 91 (dk_at dksX3_left_1 17 rfl rfl)
theorem dX3_left_43 : decode cX3_left 43 = .ok (.iconst (-1), 1) := dk_2 (dk_at dksX3_left_1 20 rfl rfl)
theorem dX3_left_44 : decode cX3_left 44 = .ok (.if_icmp .ne 7, 3) := dk_160 0 7 (dk_at dksX3_left_1 21 rfl rfl)
theorem dX3_left_47 : decode cX3_left 47 = .ok (.iconst 0, 1) := dk_3 (dk_at dksX3_left_2 0 rfl rfl)
theorem dX3_left_48 : decode cX3_left 48 = .ok (.goto 4, 3) := dk_167 0 4 (dk_at dksX3_left_2 1 rfl rfl)
theorem dX3_left_51 : decode cX3_left 51 = .ok (.iconst 1, 1) := dk_4 (dk_at dksX3_left_2 4 rfl rfl)
theorem dX3_left_52 : decode cX3_left 52 = .ok (.iadd, 1) := dk_96 (dk_at dksX3_left_2 5 rfl rfl)
theorem dX3_left_53 : decode cX3_left 53 = .ok (.istore_n 2, 1) := dk_61 (dk_at dksX3_left_2 6 rfl rfl)
theorem dX3_left_54 : decode cX3_left 54 = .ok (.goto (-37), 3) := dk_167 255 219 (dk_at dksX3_left_2 7 rfl rfl)
theorem dX3_left_57 : decode cX3_left 57 = .ok (.iload_n 2, 1) := dk_28 (dk_at dksX3_left_2 10 rfl rfl)
theorem dX3_left_58 : decode cX3_left 58 = .ok (.ireturn, 1) := dk_172 (dk_at dksX3_left_2 11 rfl rfl)
abbrev mX3_left : sd_Y := (yX3_left, cX3_left, 5, some (.int), none)
def fX3_left_b17 (G : sd_G) (k17 : Int32 × Nat → sd_M Int32) (w2 : Int32) (w3 : Nat) : sd_M Int32 :=
  sd_bnd (sd_isC G 42 w3) fun _ =>
  sd_bnd (fJ31_hasNext G w3) fun r4 =>
  if r4 = 0 then (
    sd_ret w2)
  else (
    sd_bnd (sd_isC G 42 w3) fun _ =>
    sd_bnd (fJ31_next G w3) fun r5 =>
    sd_bnd (sd_cast G [3] r5) fun _ =>
    sd_bnd (sd_getI G 3 1 r5) fun v6 =>
    if v6 = (-1) then (
      sd_bnd (sd_ret (w2 + 0)) fun x8 =>
      k17 (x8, w3))
    else (
      sd_bnd (sd_ret (w2 + 1)) fun x7 =>
      k17 (x7, w3)))
set_option maxHeartbeats 4000000 in
theorem sX3_left_b17 (l : Launch) (G : sd_G) (a0 : Nat) (a1 : Int32) (ρ : Int32) (h2 : sd_H) (cT : Nat × Nat) (k17 : Int32 × Nat → sd_M Int32) (Hk17 : ∀ (q : Int32 × Nat) (h : sd_H) (c : Nat × Nat), k17 q h = some (ρ, c, h2) → sd_J mX3_left ((l, G), (3, 64), [.ref a0, .int a1], (sd_oI ρ, h2), cT) 17 [(2, .int q.1), (3, .ref q.2)] [] h c) (w2 : Int32) (w3 : Nat) (h : sd_H) (c : Nat × Nat) (hf : fX3_left_b17 G k17 w2 w3 h = some (ρ, c, h2)) : sd_J mX3_left ((l, G), (3, 64), [.ref a0, .int a1], (sd_oI ρ, h2), cT) 17 [(2, .int w2), (3, .ref w3)] [] h c := by
  unfold fX3_left_b17 at hf
  refine sj_aload_n 1 dX3_left_17 rfl ?_
  obtain ⟨fs18, he18, hf⟩ := sd_isC_some hf
  refine sj_cI (rest := []) (fun _ _ _ e => sj_runF (n := 0) 9 (As := []) (rest := []) (sJ31_hasNext l G w3 h _ _ _ e) he18 rfl rfl rfl rfl rfl q2191 q2195 q2197 q181 q2199 (by decide +kernel) rfl rfl (fun _ z => by cases z) ⟨Nat.le_of_ble_eq_true rfl, Nat.le_of_ble_eq_true rfl⟩ rfl (Nat.le_of_ble_eq_true rfl) dX3_left_18) hf (fun r4 h c hf => ?_)
  refine sj_ifeq 57 hf dX3_left_23 (by decide) (fun g23 hf => ?_) (fun g23 hf => ?_)
  · refine sj_iload_n 0 dX3_left_57 rfl ?_
    exact sj_iret (o := sd_oI) hf rfl rfl rfl dX3_left_58
  · refine sj_aload_n 1 dX3_left_26 rfl ?_
    obtain ⟨fs27, he27, hf⟩ := sd_isC_some hf
    refine sj_cR (rest := []) (fun _ _ _ e => sj_runF (n := 0) 10 (As := []) (rest := []) (sJ31_next l G w3 h _ _ _ e) he27 rfl rfl rfl rfl rfl q2201 q2204 q2206 q181 q2208 (by decide +kernel) rfl rfl (fun _ z => by cases z) ⟨Nat.le_of_ble_eq_true rfl, Nat.le_of_ble_eq_true rfl⟩ rfl (Nat.le_of_ble_eq_true rfl) dX3_left_27) hf (fun r5 h c hf => ?_)
    obtain ⟨ci32, fs32, he32, hm32, hf⟩ := sd_cast_some hf
    refine sj_cast he32 hm32 fc_SofaDig_Cushion q309 dX3_left_32 ?_
    refine sj_astore [(4, .ref r5), (2, .int w2), (3, .ref w3)] dX3_left_35 (by decide) rfl ?_
    refine sj_iload_n 1 dX3_left_37 rfl ?_
    refine sj_aload 0 dX3_left_38 rfl ?_
    refine sj_getI fdX3_91_3 hf dX3_left_40 (fun v6 hf => ?_)
    refine sj_iconst (v := (-1)) dX3_left_43 (by decide) ?_
    refine sj_icne 51 hf dX3_left_44 (by decide) (fun g44 hf => ?_) (fun g44 hf => ?_)
    · refine sj_iconst (v := 1) dX3_left_51 (by decide) ?_
      refine sj_iadd dX3_left_52 ?_
      refine sj_nameI hf (fun x7 hf => ?_)
      refine sj_istore_n [(2, .int x7), (4, .ref r5), (3, .ref w3)] dX3_left_53 (by decide) rfl ?_
      refine sj_goto 17 dX3_left_54 (by decide) ?_
      exact sj_loc [0, 2] rfl (Hk17 (x7, w3) _ _ hf)
    · refine sj_iconst (v := 0) dX3_left_47 (by decide) ?_
      refine sj_goto 52 dX3_left_48 (by decide) ?_
      refine sj_iadd dX3_left_52 ?_
      refine sj_nameI hf (fun x8 hf => ?_)
      refine sj_istore_n [(2, .int x8), (4, .ref r5), (3, .ref w3)] dX3_left_53 (by decide) rfl ?_
      refine sj_goto 17 dX3_left_54 (by decide) ?_
      exact sj_loc [0, 2] rfl (Hk17 (x8, w3) _ _ hf)
theorem sX3_left_b17_loop (l : Launch) (G : sd_G) (a0 : Nat) (a1 : Int32) (ρ : Int32) (h2 : sd_H) (cT : Nat × Nat) (n : Nat) : ∀ (q : Int32 × Nat) (h : sd_H) (c : Nat × Nat), sd_loop (fun k s => fX3_left_b17 G k s.1 s.2) n q h = some (ρ, c, h2) → sd_J mX3_left ((l, G), (3, 64), [.ref a0, .int a1], (sd_oI ρ, h2), cT) 17 [(2, .int q.1), (3, .ref q.2)] [] h c := by
  induction n with
  | zero => intro q h c hf; cases hf
  | succ n ih => intro q h c hf; exact sX3_left_b17 l G a0 a1 ρ h2 cT _ ih _ _ _ _ hf
def fX3_left (G : sd_G) (a0 : Nat) (a1 : Int32) : sd_M Int32 :=
  sd_bnd (sd_getR G 2 2 a0) fun v1 =>
  sd_bnd (sd_isC G 41 v1) fun _ =>
  sd_bnd (fJ2_get G v1 a1) fun r2 =>
  sd_bnd (sd_cast G [41] r2) fun _ =>
  sd_bnd (sd_isC G 41 r2) fun _ =>
  sd_bnd (fJ2_iterator G r2) fun r3 =>
  sd_loop (fun k s => fX3_left_b17 G k s.1 s.2) sd_FU (0, r3)
set_option maxHeartbeats 4000000 in
theorem sX3_left (l : Launch) (G : sd_G) (a0 : Nat) (a1 : Int32) (h : sd_H) (ρ : Int32) (cT : Nat × Nat) (h2 : sd_H) (hf : fX3_left G a0 a1 h = some (ρ, cT, h2)) : sd_Met mX3_left ((l, G), (3, 64), [.ref a0, .int a1], (sd_oI ρ, h2), cT) h := by
  refine sd_entry (plainFor_of_name rfl) rfl (Nat.le_of_ble_eq_true rfl) ?_
  show sd_J mX3_left ((l, G), (3, 64), [.ref a0, .int a1], (sd_oI ρ, h2), cT) 0 [(0, .ref a0), (1, .int a1)] [] h cT
  unfold fX3_left at hf
  refine sj_iconst (v := 0) dX3_left_0 (by decide) ?_
  refine sj_istore_n [(2, .int 0), (0, .ref a0), (1, .int a1)] dX3_left_1 (by decide) rfl ?_
  refine sj_aload_n 1 dX3_left_2 rfl ?_
  refine sj_getR fdX3_21_2 hf dX3_left_3 (fun v1 hf => ?_)
  refine sj_iload_n 2 dX3_left_6 rfl ?_
  obtain ⟨fs7, he7, hf⟩ := sd_isC_some hf
  refine sj_cR (rest := []) (fun _ _ _ e => sj_runV (n := 1) (As := [.int a1]) (rest := []) (sJ2_get l G v1 a1 h _ _ _ e) he7 rfl rfl rfl rfl q2158 q1002 q3425 q121 q1004 (by decide +kernel) rfl rfl ⟨Nat.le_of_ble_eq_true rfl, Nat.le_of_ble_eq_true rfl⟩ rfl (Nat.le_of_ble_eq_true rfl) dX3_left_7) hf (fun r2 h c hf => ?_)
  obtain ⟨ci10, fs10, he10, hm10, hf⟩ := sd_cast_some hf
  refine sj_cast he10 hm10 fc_java_util_ArrayList q212 dX3_left_10 ?_
  obtain ⟨fs13, he13, hf⟩ := sd_isC_some hf
  refine sj_cR (rest := []) (fun _ _ _ e => sj_runV (n := 0) (As := []) (rest := []) (sJ2_iterator l G r2 h _ _ _ e) he13 rfl rfl rfl rfl q2167 q2168 q2169 q121 q2170 (by decide +kernel) rfl rfl ⟨Nat.le_of_ble_eq_true rfl, Nat.le_of_ble_eq_true rfl⟩ rfl (Nat.le_of_ble_eq_true rfl) dX3_left_13) hf (fun r3 h c hf => ?_)
  refine sj_astore_n [(3, .ref r3), (2, .int 0), (0, .ref a0), (1, .int a1)] dX3_left_16 (by decide) rfl ?_
  exact sj_loc [1, 0] rfl (sX3_left_b17_loop l G a0 a1 ρ h2 cT sd_FU (0, r3) _ _ hf)
/-! SofaDig$Sofa.meanYear()D -/
abbrev cX3_meanYear : ByteArray := prog_29_method_21_code
def yX3_meanYear : MethodName := ⟨RX3, "meanYear", "()D"⟩
def dkwX3_meanYear_3 : List UInt8 := [167, 255, 192, 28, 154, 0, 7, 14, 167, 0, 8, 27, 135, 28, 135, 111, 175]
abbrev dktX3_meanYear_3 : List UInt8 := dkwX3_meanYear_3 ++ []
def dkwX3_meanYear_2 : List UInt8 := [42, 180, 0, 28, 29, 182, 0, 50, 192, 0, 124, 180, 0, 132, 96, 60, 132, 2, 1, 132, 3, 1]
abbrev dktX3_meanYear_2 : List UInt8 := dkwX3_meanYear_2 ++ dktX3_meanYear_3
def dkwX3_meanYear_1 : List UInt8 := [160, 0, 43, 42, 180, 0, 28, 29, 182, 0, 50, 192, 0, 124, 180, 0, 129, 154, 0, 6, 167, 0, 23, 27]
abbrev dktX3_meanYear_1 : List UInt8 := dkwX3_meanYear_1 ++ dktX3_meanYear_2
def dkwX3_meanYear_0 : List UInt8 := [3, 60, 3, 61, 3, 62, 29, 42, 180, 0, 28, 182, 0, 54, 162, 0, 59, 42, 180, 0, 34, 29, 46, 4]
abbrev dktX3_meanYear_0 : List UInt8 := dkwX3_meanYear_0 ++ dktX3_meanYear_1
theorem dksX3_meanYear_0 : cX3_meanYear.data.toList.drop 0 = dktX3_meanYear_0 := by decide +kernel
theorem dksX3_meanYear_1 : cX3_meanYear.data.toList.drop 24 = dktX3_meanYear_1 := dk_seg dksX3_meanYear_0 24 rfl rfl
theorem dksX3_meanYear_2 : cX3_meanYear.data.toList.drop 48 = dktX3_meanYear_2 := dk_seg dksX3_meanYear_1 24 rfl rfl
theorem dksX3_meanYear_3 : cX3_meanYear.data.toList.drop 70 = dktX3_meanYear_3 := dk_seg dksX3_meanYear_2 22 rfl rfl
theorem dX3_meanYear_0 : decode cX3_meanYear 0 = .ok (.iconst 0, 1) := dk_3 (dk_at dksX3_meanYear_0 0 rfl rfl)
theorem dX3_meanYear_1 : decode cX3_meanYear 1 = .ok (.istore_n 1, 1) := dk_60 (dk_at dksX3_meanYear_0 1 rfl rfl)
theorem dX3_meanYear_2 : decode cX3_meanYear 2 = .ok (.iconst 0, 1) := dk_3 (dk_at dksX3_meanYear_0 2 rfl rfl)
theorem dX3_meanYear_3 : decode cX3_meanYear 3 = .ok (.istore_n 2, 1) := dk_61 (dk_at dksX3_meanYear_0 3 rfl rfl)
theorem dX3_meanYear_4 : decode cX3_meanYear 4 = .ok (.iconst 0, 1) := dk_3 (dk_at dksX3_meanYear_0 4 rfl rfl)
theorem dX3_meanYear_5 : decode cX3_meanYear 5 = .ok (.istore_n 3, 1) := dk_62 (dk_at dksX3_meanYear_0 5 rfl rfl)
theorem dX3_meanYear_6 : decode cX3_meanYear 6 = .ok (.iload_n 3, 1) := dk_29 (dk_at dksX3_meanYear_0 6 rfl rfl)
theorem dX3_meanYear_7 : decode cX3_meanYear 7 = .ok (.aload_n 0, 1) := dk_42 (dk_at dksX3_meanYear_0 7 rfl rfl)
theorem dX3_meanYear_8 : decode cX3_meanYear 8 = .ok (.getfield 28, 3) := dk_180 0 28 (dk_at dksX3_meanYear_0 8 rfl rfl)
theorem dX3_meanYear_11 : decode cX3_meanYear 11 = .ok (.invokevirtual 54, 3) := dk_182 0 54 (dk_at dksX3_meanYear_0 11 rfl rfl)
theorem dX3_meanYear_14 : decode cX3_meanYear 14 = .ok (.if_icmp .ge 59, 3) := dk_162 0 59 (dk_at dksX3_meanYear_0 14 rfl rfl)
theorem dX3_meanYear_17 : decode cX3_meanYear 17 = .ok (.aload_n 0, 1) := dk_42 (dk_at dksX3_meanYear_0 17 rfl rfl)
theorem dX3_meanYear_18 : decode cX3_meanYear 18 = .ok (.getfield 34, 3) := dk_180 0 34 (dk_at dksX3_meanYear_0 18 rfl rfl)
theorem dX3_meanYear_21 : decode cX3_meanYear 21 = .ok (.iload_n 3, 1) := dk_29 (dk_at dksX3_meanYear_0 21 rfl rfl)
theorem dX3_meanYear_22 : decode cX3_meanYear 22 = .ok (.iaload, 1) := dk_46 (dk_at dksX3_meanYear_0 22 rfl rfl)
theorem dX3_meanYear_23 : decode cX3_meanYear 23 = .ok (.iconst 1, 1) := dk_4 (dk_at dksX3_meanYear_0 23 rfl rfl)
theorem dX3_meanYear_24 : decode cX3_meanYear 24 = .ok (.if_icmp .ne 43, 3) := dk_160 0 43 (dk_at dksX3_meanYear_1 0 rfl rfl)
theorem dX3_meanYear_27 : decode cX3_meanYear 27 = .ok (.aload_n 0, 1) := dk_42 (dk_at dksX3_meanYear_1 3 rfl rfl)
theorem dX3_meanYear_28 : decode cX3_meanYear 28 = .ok (.getfield 28, 3) := dk_180 0 28 (dk_at dksX3_meanYear_1 4 rfl rfl)
theorem dX3_meanYear_31 : decode cX3_meanYear 31 = .ok (.iload_n 3, 1) := dk_29 (dk_at dksX3_meanYear_1 7 rfl rfl)
theorem dX3_meanYear_32 : decode cX3_meanYear 32 = .ok (.invokevirtual 50, 3) := dk_182 0 50 (dk_at dksX3_meanYear_1 8 rfl rfl)
theorem dX3_meanYear_35 : decode cX3_meanYear 35 = .ok (.checkcast 124, 3) := dk_192 0 124 (dk_at dksX3_meanYear_1 11 rfl rfl)
theorem dX3_meanYear_38 : decode cX3_meanYear 38 = .ok (.getfield 129, 3) := dk_180 0 129 (dk_at dksX3_meanYear_1 14 rfl rfl)
theorem dX3_meanYear_41 : decode cX3_meanYear 41 = .ok (.ifCond .ne 6, 3) := dk_154 0 6 (dk_at dksX3_meanYear_1 17 rfl rfl)
theorem dX3_meanYear_44 : decode cX3_meanYear 44 = .ok (.goto 23, 3) := dk_167 0 23 (dk_at dksX3_meanYear_1 20 rfl rfl)
theorem dX3_meanYear_47 : decode cX3_meanYear 47 = .ok (.iload_n 1, 1) := dk_27 (dk_at dksX3_meanYear_1 23 rfl rfl)
theorem dX3_meanYear_48 : decode cX3_meanYear 48 = .ok (.aload_n 0, 1) := dk_42 (dk_at dksX3_meanYear_2 0 rfl rfl)
theorem dX3_meanYear_49 : decode cX3_meanYear 49 = .ok (.getfield 28, 3) := dk_180 0 28 (dk_at dksX3_meanYear_2 1 rfl rfl)
theorem dX3_meanYear_52 : decode cX3_meanYear 52 = .ok (.iload_n 3, 1) := dk_29 (dk_at dksX3_meanYear_2 4 rfl rfl)
theorem dX3_meanYear_53 : decode cX3_meanYear 53 = .ok (.invokevirtual 50, 3) := dk_182 0 50 (dk_at dksX3_meanYear_2 5 rfl rfl)
theorem dX3_meanYear_56 : decode cX3_meanYear 56 = .ok (.checkcast 124, 3) := dk_192 0 124 (dk_at dksX3_meanYear_2 8 rfl rfl)
theorem dX3_meanYear_59 : decode cX3_meanYear 59 = .ok (.getfield 132, 3) := dk_180 0 132 (dk_at dksX3_meanYear_2 11 rfl rfl)
theorem dX3_meanYear_62 : decode cX3_meanYear 62 = .ok (.iadd, 1) := dk_96 (dk_at dksX3_meanYear_2 14 rfl rfl)
theorem dX3_meanYear_63 : decode cX3_meanYear 63 = .ok (.istore_n 1, 1) := dk_60 (dk_at dksX3_meanYear_2 15 rfl rfl)
theorem dX3_meanYear_64 : decode cX3_meanYear 64 = .ok (.iinc 2 1, 3) := dk_132 2 1 (dk_at dksX3_meanYear_2 16 rfl rfl)
theorem dX3_meanYear_67 : decode cX3_meanYear 67 = .ok (.iinc 3 1, 3) := dk_132 3 1 (dk_at dksX3_meanYear_2 19 rfl rfl)
theorem dX3_meanYear_70 : decode cX3_meanYear 70 = .ok (.goto (-64), 3) := dk_167 255 192 (dk_at dksX3_meanYear_3 0 rfl rfl)
theorem dX3_meanYear_73 : decode cX3_meanYear 73 = .ok (.iload_n 2, 1) := dk_28 (dk_at dksX3_meanYear_3 3 rfl rfl)
theorem dX3_meanYear_74 : decode cX3_meanYear 74 = .ok (.ifCond .ne 7, 3) := dk_154 0 7 (dk_at dksX3_meanYear_3 4 rfl rfl)
theorem dX3_meanYear_77 : decode cX3_meanYear 77 = .ok (.dconst 0, 1) := dk_14 (dk_at dksX3_meanYear_3 7 rfl rfl)
theorem dX3_meanYear_78 : decode cX3_meanYear 78 = .ok (.goto 8, 3) := dk_167 0 8 (dk_at dksX3_meanYear_3 8 rfl rfl)
theorem dX3_meanYear_81 : decode cX3_meanYear 81 = .ok (.iload_n 1, 1) := dk_27 (dk_at dksX3_meanYear_3 11 rfl rfl)
theorem dX3_meanYear_82 : decode cX3_meanYear 82 = .ok (.i2d, 1) := dk_135 (dk_at dksX3_meanYear_3 12 rfl rfl)
theorem dX3_meanYear_83 : decode cX3_meanYear 83 = .ok (.iload_n 2, 1) := dk_28 (dk_at dksX3_meanYear_3 13 rfl rfl)
theorem dX3_meanYear_84 : decode cX3_meanYear 84 = .ok (.i2d, 1) := dk_135 (dk_at dksX3_meanYear_3 14 rfl rfl)
theorem dX3_meanYear_85 : decode cX3_meanYear 85 = .ok (.ddiv, 1) := dk_111 (dk_at dksX3_meanYear_3 15 rfl rfl)
theorem dX3_meanYear_86 : decode cX3_meanYear 86 = .ok (.dreturn, 1) := dk_175 (dk_at dksX3_meanYear_3 16 rfl rfl)
theorem fc_SofaDig_Find : sd_Fc [11] "SofaDig$Find" := fun ci r hm hc => by
  simp only [List.mem_cons, List.not_mem_nil, or_false] at hm
  rcases hm with rfl
  · cases hc; exact Or.inl rfl
theorem fdX3_129_11 : sd_Fd "SofaDig$Sofa" 129 11 0 := ⟨(RX12, TX12, 3), "SofaDig$Find", rfl, by decide, rfl, in_X12, Or.inl rfl, Or.inr ⟨_, q1837⟩⟩
theorem fdX3_132_11 : sd_Fd "SofaDig$Sofa" 132 11 1 := ⟨(RX12, TX12, 3), "SofaDig$Find", rfl, by decide, rfl, in_X12, Or.inl rfl, Or.inr ⟨_, q1840⟩⟩
abbrev mX3_meanYear : sd_Y := (yX3_meanYear, cX3_meanYear, 4, some (.double), none)
def fX3_meanYear_b6 (G : sd_G) (k6 : Nat × Int32 × Int32 × Int32 → sd_M UInt64) (w0 : Nat) (w1 : Int32) (w2 : Int32) (w3 : Int32) : sd_M UInt64 :=
  sd_bnd (sd_getR G 2 4 w0) fun v1 =>
  sd_bnd (sd_isC G 41 v1) fun _ =>
  sd_bnd (fJ2_size G v1) fun r2 =>
  if r2 ≤ w3 then (
    if w2 = 0 then (
      sd_ret (FP.dconst0))
    else (
      sd_bnd (sd_dn (FP.i2d w1) (FP.i2d w2)) fun _ =>
      sd_ret (FP.ddiv (FP.i2d w1) (FP.i2d w2))))
  else (
    sd_bnd (sd_getR G 2 6 w0) fun v3 =>
    sd_bnd (sd_aldI G 0 v3 w3) fun v4 =>
    if v4 = 1 then (
      sd_bnd (sd_getR G 2 4 w0) fun v6 =>
      sd_bnd (sd_isC G 41 v6) fun _ =>
      sd_bnd (fJ2_get G v6 w3) fun r7 =>
      sd_bnd (sd_cast G [11] r7) fun _ =>
      sd_bnd (sd_getI G 11 0 r7) fun v8 =>
      if v8 = 0 then (
        sd_bnd (sd_ret (w3 + 1)) fun x15 =>
        k6 (w0, w1, w2, x15))
      else (
        sd_bnd (sd_getR G 2 4 w0) fun v9 =>
        sd_bnd (sd_isC G 41 v9) fun _ =>
        sd_bnd (fJ2_get G v9 w3) fun r10 =>
        sd_bnd (sd_cast G [11] r10) fun _ =>
        sd_bnd (sd_getI G 11 1 r10) fun v11 =>
        sd_bnd (sd_ret (w1 + v11)) fun x12 =>
        sd_bnd (sd_ret (w2 + 1)) fun x13 =>
        sd_bnd (sd_ret (w3 + 1)) fun x14 =>
        k6 (w0, x12, x13, x14)))
    else (
      sd_bnd (sd_ret (w3 + 1)) fun x5 =>
      k6 (w0, w1, w2, x5)))
set_option maxHeartbeats 4000000 in
theorem sX3_meanYear_b6 (l : Launch) (G : sd_G) (a0 : Nat) (ρ : UInt64) (h2 : sd_H) (cT : Nat × Nat) (k6 : Nat × Int32 × Int32 × Int32 → sd_M UInt64) (Hk6 : ∀ (q : Nat × Int32 × Int32 × Int32) (h : sd_H) (c : Nat × Nat), k6 q h = some (ρ, c, h2) → sd_J mX3_meanYear ((l, G), (3, 64), [.ref a0], (sd_oD ρ, h2), cT) 6 [(0, .ref q.1), (1, .int q.2.1), (2, .int q.2.2.1), (3, .int q.2.2.2)] [] h c) (w0 : Nat) (w1 : Int32) (w2 : Int32) (w3 : Int32) (h : sd_H) (c : Nat × Nat) (hf : fX3_meanYear_b6 G k6 w0 w1 w2 w3 h = some (ρ, c, h2)) : sd_J mX3_meanYear ((l, G), (3, 64), [.ref a0], (sd_oD ρ, h2), cT) 6 [(0, .ref w0), (1, .int w1), (2, .int w2), (3, .int w3)] [] h c := by
  unfold fX3_meanYear_b6 at hf
  refine sj_iload_n 3 dX3_meanYear_6 rfl ?_
  refine sj_aload_n 0 dX3_meanYear_7 rfl ?_
  refine sj_getR fdX3_28_2 hf dX3_meanYear_8 (fun v1 hf => ?_)
  obtain ⟨fs11, he11, hf⟩ := sd_isC_some hf
  refine sj_cI (rest := [.int w3]) (fun _ _ _ e => sj_runV (n := 0) (As := []) (rest := [.int w3]) (sJ2_size l G v1 h _ _ _ e) he11 rfl rfl rfl rfl q2129 q490 q491 q121 q492 (by decide +kernel) rfl rfl ⟨Nat.le_of_ble_eq_true rfl, Nat.le_of_ble_eq_true rfl⟩ rfl (Nat.le_of_ble_eq_true rfl) dX3_meanYear_11) hf (fun r2 h c hf => ?_)
  refine sj_icge 73 hf dX3_meanYear_14 (by decide) (fun g14 hf => ?_) (fun g14 hf => ?_)
  · refine sj_iload_n 2 dX3_meanYear_73 rfl ?_
    refine sj_ifne 81 hf dX3_meanYear_74 (by decide) (fun g74 hf => ?_) (fun g74 hf => ?_)
    · refine sj_iload_n 1 dX3_meanYear_81 rfl ?_
      refine sj_i2d dX3_meanYear_82 ?_
      refine sj_iload_n 2 dX3_meanYear_83 rfl ?_
      refine sj_i2d dX3_meanYear_84 ?_
      obtain ⟨hz85, hf⟩ := sd_dn_some hf
      refine sj_ddiv dX3_meanYear_85 hz85 ?_
      exact sj_dret (o := sd_oD) hf rfl rfl rfl dX3_meanYear_86
    · refine sj_dconst0 dX3_meanYear_77 ?_
      refine sj_goto 86 dX3_meanYear_78 (by decide) ?_
      exact sj_dret (o := sd_oD) hf rfl rfl rfl dX3_meanYear_86
  · refine sj_aload_n 0 dX3_meanYear_17 rfl ?_
    refine sj_getR fdX3_34_2 hf dX3_meanYear_18 (fun v3 hf => ?_)
    refine sj_iload_n 3 dX3_meanYear_21 rfl ?_
    refine sj_iald hf dX3_meanYear_22 (fun v4 hf => ?_)
    refine sj_iconst (v := 1) dX3_meanYear_23 (by decide) ?_
    refine sj_icne 67 hf dX3_meanYear_24 (by decide) (fun g24 hf => ?_) (fun g24 hf => ?_)
    · refine sj_iincN 3 (fun x5 => [(3, .int x5), (0, .ref w0), (1, .int w1), (2, .int w2)]) 1 hf dX3_meanYear_67 rfl (by decide) (by decide) (fun _ => rfl) (fun x5 hf => ?_)
      refine sj_goto 6 dX3_meanYear_70 (by decide) ?_
      exact sj_loc [1, 2, 3, 0] rfl (Hk6 (w0, w1, w2, x5) _ _ hf)
    · refine sj_aload_n 0 dX3_meanYear_27 rfl ?_
      refine sj_getR fdX3_28_2 hf dX3_meanYear_28 (fun v6 hf => ?_)
      refine sj_iload_n 3 dX3_meanYear_31 rfl ?_
      obtain ⟨fs32, he32, hf⟩ := sd_isC_some hf
      refine sj_cR (rest := []) (fun _ _ _ e => sj_runV (n := 1) (As := [.int w3]) (rest := []) (sJ2_get l G v6 w3 h _ _ _ e) he32 rfl rfl rfl rfl q2158 q1002 q3425 q121 q1004 (by decide +kernel) rfl rfl ⟨Nat.le_of_ble_eq_true rfl, Nat.le_of_ble_eq_true rfl⟩ rfl (Nat.le_of_ble_eq_true rfl) dX3_meanYear_32) hf (fun r7 h c hf => ?_)
      obtain ⟨ci35, fs35, he35, hm35, hf⟩ := sd_cast_some hf
      refine sj_cast he35 hm35 fc_SofaDig_Find q2276 dX3_meanYear_35 ?_
      refine sj_getI fdX3_129_11 hf dX3_meanYear_38 (fun v8 hf => ?_)
      refine sj_ifne 47 hf dX3_meanYear_41 (by decide) (fun g41 hf => ?_) (fun g41 hf => ?_)
      · refine sj_iload_n 1 dX3_meanYear_47 rfl ?_
        refine sj_aload_n 0 dX3_meanYear_48 rfl ?_
        refine sj_getR fdX3_28_2 hf dX3_meanYear_49 (fun v9 hf => ?_)
        refine sj_iload_n 3 dX3_meanYear_52 rfl ?_
        obtain ⟨fs53, he53, hf⟩ := sd_isC_some hf
        refine sj_cR (rest := [.int w1]) (fun _ _ _ e => sj_runV (n := 1) (As := [.int w3]) (rest := [.int w1]) (sJ2_get l G v9 w3 h _ _ _ e) he53 rfl rfl rfl rfl q2158 q1002 q3425 q121 q1004 (by decide +kernel) rfl rfl ⟨Nat.le_of_ble_eq_true rfl, Nat.le_of_ble_eq_true rfl⟩ rfl (Nat.le_of_ble_eq_true rfl) dX3_meanYear_53) hf (fun r10 h c hf => ?_)
        obtain ⟨ci56, fs56, he56, hm56, hf⟩ := sd_cast_some hf
        refine sj_cast he56 hm56 fc_SofaDig_Find q2276 dX3_meanYear_56 ?_
        refine sj_getI fdX3_132_11 hf dX3_meanYear_59 (fun v11 hf => ?_)
        refine sj_iadd dX3_meanYear_62 ?_
        refine sj_nameI hf (fun x12 hf => ?_)
        refine sj_istore_n [(1, .int x12), (0, .ref w0), (2, .int w2), (3, .int w3)] dX3_meanYear_63 (by decide) rfl ?_
        refine sj_iincN 2 (fun x13 => [(2, .int x13), (1, .int x12), (0, .ref w0), (3, .int w3)]) 1 hf dX3_meanYear_64 rfl (by decide) (by decide) (fun _ => rfl) (fun x13 hf => ?_)
        refine sj_iincN 3 (fun x14 => [(3, .int x14), (2, .int x13), (1, .int x12), (0, .ref w0)]) 1 hf dX3_meanYear_67 rfl (by decide) (by decide) (fun _ => rfl) (fun x14 hf => ?_)
        refine sj_goto 6 dX3_meanYear_70 (by decide) ?_
        exact sj_loc [3, 2, 1, 0] rfl (Hk6 (w0, x12, x13, x14) _ _ hf)
      · refine sj_goto 67 dX3_meanYear_44 (by decide) ?_
        refine sj_iincN 3 (fun x15 => [(3, .int x15), (0, .ref w0), (1, .int w1), (2, .int w2)]) 1 hf dX3_meanYear_67 rfl (by decide) (by decide) (fun _ => rfl) (fun x15 hf => ?_)
        refine sj_goto 6 dX3_meanYear_70 (by decide) ?_
        exact sj_loc [1, 2, 3, 0] rfl (Hk6 (w0, w1, w2, x15) _ _ hf)
theorem sX3_meanYear_b6_loop (l : Launch) (G : sd_G) (a0 : Nat) (ρ : UInt64) (h2 : sd_H) (cT : Nat × Nat) (n : Nat) : ∀ (q : Nat × Int32 × Int32 × Int32) (h : sd_H) (c : Nat × Nat), sd_loop (fun k s => fX3_meanYear_b6 G k s.1 s.2.1 s.2.2.1 s.2.2.2) n q h = some (ρ, c, h2) → sd_J mX3_meanYear ((l, G), (3, 64), [.ref a0], (sd_oD ρ, h2), cT) 6 [(0, .ref q.1), (1, .int q.2.1), (2, .int q.2.2.1), (3, .int q.2.2.2)] [] h c := by
  induction n with
  | zero => intro q h c hf; cases hf
  | succ n ih => intro q h c hf; exact sX3_meanYear_b6 l G a0 ρ h2 cT _ ih _ _ _ _ _ _ hf
def fX3_meanYear (G : sd_G) (a0 : Nat) : sd_M UInt64 :=
  sd_loop (fun k s => fX3_meanYear_b6 G k s.1 s.2.1 s.2.2.1 s.2.2.2) sd_FU (a0, 0, 0, 0)
set_option maxHeartbeats 4000000 in
theorem sX3_meanYear (l : Launch) (G : sd_G) (a0 : Nat) (h : sd_H) (ρ : UInt64) (cT : Nat × Nat) (h2 : sd_H) (hf : fX3_meanYear G a0 h = some (ρ, cT, h2)) : sd_Met mX3_meanYear ((l, G), (3, 64), [.ref a0], (sd_oD ρ, h2), cT) h := by
  refine sd_entry (plainFor_of_name rfl) rfl (Nat.le_of_ble_eq_true rfl) ?_
  show sd_J mX3_meanYear ((l, G), (3, 64), [.ref a0], (sd_oD ρ, h2), cT) 0 [(0, .ref a0)] [] h cT
  unfold fX3_meanYear at hf
  refine sj_iconst (v := 0) dX3_meanYear_0 (by decide) ?_
  refine sj_istore_n [(1, .int 0), (0, .ref a0)] dX3_meanYear_1 (by decide) rfl ?_
  refine sj_iconst (v := 0) dX3_meanYear_2 (by decide) ?_
  refine sj_istore_n [(2, .int 0), (1, .int 0), (0, .ref a0)] dX3_meanYear_3 (by decide) rfl ?_
  refine sj_iconst (v := 0) dX3_meanYear_4 (by decide) ?_
  refine sj_istore_n [(3, .int 0), (2, .int 0), (1, .int 0), (0, .ref a0)] dX3_meanYear_5 (by decide) rfl ?_
  exact sj_loc [3, 2, 1, 0] rfl (sX3_meanYear_b6_loop l G a0 ρ h2 cT sd_FU (a0, 0, 0, 0) _ _ hf)
/-! SofaDig$Sofa.notBefore(I)I -/
abbrev cX3_notBefore : ByteArray := prog_29_method_18_code
def yX3_notBefore : MethodName := ⟨RX3, "notBefore", "(I)I"⟩
def dkwX3_notBefore_4 : List UInt8 := [28, 172]
abbrev dktX3_notBefore_4 : List UInt8 := dkwX3_notBefore_4 ++ []
def dkwX3_notBefore_3 : List UInt8 := [25, 4, 180, 0, 132, 182, 0, 50, 192, 0, 135, 180, 0, 137, 184, 0, 140, 61, 132, 3, 1, 167, 255, 168]
abbrev dktX3_notBefore_3 : List UInt8 := dkwX3_notBefore_3 ++ dktX3_notBefore_4
def dkwX3_notBefore_2 : List UInt8 := [167, 0, 42, 28, 25, 4, 180, 0, 129, 153, 0, 11, 25, 4, 180, 0, 132, 167, 0, 21, 42, 180, 0, 25]
abbrev dktX3_notBefore_2 : List UInt8 := dkwX3_notBefore_2 ++ dktX3_notBefore_3
def dkwX3_notBefore_1 : List UInt8 := [192, 0, 124, 58, 4, 42, 180, 0, 34, 29, 46, 4, 160, 0, 54, 25, 4, 180, 0, 126, 27, 164, 0, 6]
abbrev dktX3_notBefore_1 : List UInt8 := dkwX3_notBefore_1 ++ dktX3_notBefore_2
def dkwX3_notBefore_0 : List UInt8 := [2, 61, 3, 62, 29, 42, 180, 0, 28, 182, 0, 54, 162, 0, 83, 42, 180, 0, 28, 29, 182, 0, 50]
abbrev dktX3_notBefore_0 : List UInt8 := dkwX3_notBefore_0 ++ dktX3_notBefore_1
theorem dksX3_notBefore_0 : cX3_notBefore.data.toList.drop 0 = dktX3_notBefore_0 := by decide +kernel
theorem dksX3_notBefore_1 : cX3_notBefore.data.toList.drop 23 = dktX3_notBefore_1 := dk_seg dksX3_notBefore_0 23 rfl rfl
theorem dksX3_notBefore_2 : cX3_notBefore.data.toList.drop 47 = dktX3_notBefore_2 := dk_seg dksX3_notBefore_1 24 rfl rfl
theorem dksX3_notBefore_3 : cX3_notBefore.data.toList.drop 71 = dktX3_notBefore_3 := dk_seg dksX3_notBefore_2 24 rfl rfl
theorem dksX3_notBefore_4 : cX3_notBefore.data.toList.drop 95 = dktX3_notBefore_4 := dk_seg dksX3_notBefore_3 24 rfl rfl
theorem dX3_notBefore_0 : decode cX3_notBefore 0 = .ok (.iconst (-1), 1) := dk_2 (dk_at dksX3_notBefore_0 0 rfl rfl)
theorem dX3_notBefore_1 : decode cX3_notBefore 1 = .ok (.istore_n 2, 1) := dk_61 (dk_at dksX3_notBefore_0 1 rfl rfl)
theorem dX3_notBefore_2 : decode cX3_notBefore 2 = .ok (.iconst 0, 1) := dk_3 (dk_at dksX3_notBefore_0 2 rfl rfl)
theorem dX3_notBefore_3 : decode cX3_notBefore 3 = .ok (.istore_n 3, 1) := dk_62 (dk_at dksX3_notBefore_0 3 rfl rfl)
theorem dX3_notBefore_4 : decode cX3_notBefore 4 = .ok (.iload_n 3, 1) := dk_29 (dk_at dksX3_notBefore_0 4 rfl rfl)
theorem dX3_notBefore_5 : decode cX3_notBefore 5 = .ok (.aload_n 0, 1) := dk_42 (dk_at dksX3_notBefore_0 5 rfl rfl)
theorem dX3_notBefore_6 : decode cX3_notBefore 6 = .ok (.getfield 28, 3) := dk_180 0 28 (dk_at dksX3_notBefore_0 6 rfl rfl)
theorem dX3_notBefore_9 : decode cX3_notBefore 9 = .ok (.invokevirtual 54, 3) := dk_182 0 54 (dk_at dksX3_notBefore_0 9 rfl rfl)
theorem dX3_notBefore_12 : decode cX3_notBefore 12 = .ok (.if_icmp .ge 83, 3) := dk_162 0 83 (dk_at dksX3_notBefore_0 12 rfl rfl)
theorem dX3_notBefore_15 : decode cX3_notBefore 15 = .ok (.aload_n 0, 1) := dk_42 (dk_at dksX3_notBefore_0 15 rfl rfl)
theorem dX3_notBefore_16 : decode cX3_notBefore 16 = .ok (.getfield 28, 3) := dk_180 0 28 (dk_at dksX3_notBefore_0 16 rfl rfl)
theorem dX3_notBefore_19 : decode cX3_notBefore 19 = .ok (.iload_n 3, 1) := dk_29 (dk_at dksX3_notBefore_0 19 rfl rfl)
theorem dX3_notBefore_20 : decode cX3_notBefore 20 = .ok (.invokevirtual 50, 3) := dk_182 0 50 (dk_at dksX3_notBefore_0 20 rfl rfl)
theorem dX3_notBefore_23 : decode cX3_notBefore 23 = .ok (.checkcast 124, 3) := dk_192 0 124 (dk_at dksX3_notBefore_1 0 rfl rfl)
theorem dX3_notBefore_26 : decode cX3_notBefore 26 = .ok (.astore 4, 2) := dk_58 4 (dk_at dksX3_notBefore_1 3 rfl rfl)
theorem dX3_notBefore_28 : decode cX3_notBefore 28 = .ok (.aload_n 0, 1) := dk_42 (dk_at dksX3_notBefore_1 5 rfl rfl)
theorem dX3_notBefore_29 : decode cX3_notBefore 29 = .ok (.getfield 34, 3) := dk_180 0 34 (dk_at dksX3_notBefore_1 6 rfl rfl)
theorem dX3_notBefore_32 : decode cX3_notBefore 32 = .ok (.iload_n 3, 1) := dk_29 (dk_at dksX3_notBefore_1 9 rfl rfl)
theorem dX3_notBefore_33 : decode cX3_notBefore 33 = .ok (.iaload, 1) := dk_46 (dk_at dksX3_notBefore_1 10 rfl rfl)
theorem dX3_notBefore_34 : decode cX3_notBefore 34 = .ok (.iconst 1, 1) := dk_4 (dk_at dksX3_notBefore_1 11 rfl rfl)
theorem dX3_notBefore_35 : decode cX3_notBefore 35 = .ok (.if_icmp .ne 54, 3) := dk_160 0 54 (dk_at dksX3_notBefore_1 12 rfl rfl)
theorem dX3_notBefore_38 : decode cX3_notBefore 38 = .ok (.aload 4, 2) := dk_25 4 (dk_at dksX3_notBefore_1 15 rfl rfl)
theorem dX3_notBefore_40 : decode cX3_notBefore 40 = .ok (.getfield 126, 3) := dk_180 0 126 (dk_at dksX3_notBefore_1 17 rfl rfl)
theorem dX3_notBefore_43 : decode cX3_notBefore 43 = .ok (.iload_n 1, 1) := dk_27 (dk_at dksX3_notBefore_1 20 rfl rfl)
theorem dX3_notBefore_44 : decode cX3_notBefore 44 = .ok (.if_icmp .le 6, 3) := dk_164 0 6 (dk_at dksX3_notBefore_1 21 rfl rfl)
theorem dX3_notBefore_47 : decode cX3_notBefore 47 = .ok (.goto 42, 3) := dk_167 0 42 (dk_at dksX3_notBefore_2 0 rfl rfl)
theorem dX3_notBefore_50 : decode cX3_notBefore 50 = .ok (.iload_n 2, 1) := dk_28 (dk_at dksX3_notBefore_2 3 rfl rfl)
theorem dX3_notBefore_51 : decode cX3_notBefore 51 = .ok (.aload 4, 2) := dk_25 4 (dk_at dksX3_notBefore_2 4 rfl rfl)
theorem dX3_notBefore_53 : decode cX3_notBefore 53 = .ok (.getfield 129, 3) := dk_180 0 129 (dk_at dksX3_notBefore_2 6 rfl rfl)
theorem dX3_notBefore_56 : decode cX3_notBefore 56 = .ok (.ifCond .eq 11, 3) := dk_153 0 11 (dk_at dksX3_notBefore_2 9 rfl rfl)
theorem dX3_notBefore_59 : decode cX3_notBefore 59 = .ok (.aload 4, 2) := dk_25 4 (dk_at dksX3_notBefore_2 12 rfl rfl)
theorem dX3_notBefore_61 : decode cX3_notBefore 61 = .ok (.getfield 132, 3) := dk_180 0 132 (dk_at dksX3_notBefore_2 14 rfl rfl)
theorem dX3_notBefore_64 : decode cX3_notBefore 64 = .ok (.goto 21, 3) := dk_167 0 21 (dk_at dksX3_notBefore_2 17 rfl rfl)
theorem dX3_notBefore_67 : decode cX3_notBefore 67 = .ok (.aload_n 0, 1) := dk_42 (dk_at dksX3_notBefore_2 20 rfl rfl)
theorem dX3_notBefore_68 : decode cX3_notBefore 68 = .ok (.getfield 25, 3) := dk_180 0 25 (dk_at dksX3_notBefore_2 21 rfl rfl)
theorem dX3_notBefore_71 : decode cX3_notBefore 71 = .ok (.aload 4, 2) := dk_25 4 (dk_at dksX3_notBefore_3 0 rfl rfl)
theorem dX3_notBefore_73 : decode cX3_notBefore 73 = .ok (.getfield 132, 3) := dk_180 0 132 (dk_at dksX3_notBefore_3 2 rfl rfl)
theorem dX3_notBefore_76 : decode cX3_notBefore 76 = .ok (.invokevirtual 50, 3) := dk_182 0 50 (dk_at dksX3_notBefore_3 5 rfl rfl)
theorem dX3_notBefore_79 : decode cX3_notBefore 79 = .ok (.checkcast 135, 3) := dk_192 0 135 (dk_at dksX3_notBefore_3 8 rfl rfl)
theorem dX3_notBefore_82 : decode cX3_notBefore 82 = .ok (.getfield 137, 3) := dk_180 0 137 (dk_at dksX3_notBefore_3 11 rfl rfl)
theorem dX3_notBefore_85 : decode cX3_notBefore 85 = .ok (.invokestatic 140, 3) := dk_184 0 140 (dk_at dksX3_notBefore_3 14 rfl rfl)
theorem dX3_notBefore_88 : decode cX3_notBefore 88 = .ok (.istore_n 2, 1) := dk_61 (dk_at dksX3_notBefore_3 17 rfl rfl)
theorem dX3_notBefore_89 : decode cX3_notBefore 89 = .ok (.iinc 3 1, 3) := dk_132 3 1 (dk_at dksX3_notBefore_3 18 rfl rfl)
theorem dX3_notBefore_92 : decode cX3_notBefore 92 = .ok (.goto (-88), 3) := dk_167 255 168 (dk_at dksX3_notBefore_3 21 rfl rfl)
theorem dX3_notBefore_95 : decode cX3_notBefore 95 = .ok (.iload_n 2, 1) := dk_28 (dk_at dksX3_notBefore_4 0 rfl rfl)
theorem dX3_notBefore_96 : decode cX3_notBefore 96 = .ok (.ireturn, 1) := dk_172 (dk_at dksX3_notBefore_4 1 rfl rfl)
theorem fdX3_126_11 : sd_Fd "SofaDig$Sofa" 126 11 2 := ⟨(RX12, TX12, 3), "SofaDig$Find", rfl, by decide, rfl, in_X12, Or.inl rfl, Or.inr ⟨_, q1843⟩⟩
theorem fc_SofaDig_Empire : sd_Fc [10] "SofaDig$Empire" := fun ci r hm hc => by
  simp only [List.mem_cons, List.not_mem_nil, or_false] at hm
  rcases hm with rfl
  · cases hc; exact Or.inl rfl
theorem fdX3_137_10 : sd_Fd "SofaDig$Sofa" 137 10 0 := ⟨(RX11, TX11, 2), "SofaDig$Empire", rfl, by decide, rfl, in_X11, Or.inl rfl, Or.inr ⟨_, q1629⟩⟩
abbrev mX3_notBefore : sd_Y := (yX3_notBefore, cX3_notBefore, 5, some (.int), none)
def fX3_notBefore_b4 (G : sd_G) (k4 : Nat × Int32 × Int32 × Int32 → sd_M Int32) (w0 : Nat) (w1 : Int32) (w2 : Int32) (w3 : Int32) : sd_M Int32 :=
  sd_bnd (sd_getR G 2 4 w0) fun v1 =>
  sd_bnd (sd_isC G 41 v1) fun _ =>
  sd_bnd (fJ2_size G v1) fun r2 =>
  if r2 ≤ w3 then (
    sd_ret w2)
  else (
    sd_bnd (sd_getR G 2 4 w0) fun v3 =>
    sd_bnd (sd_isC G 41 v3) fun _ =>
    sd_bnd (fJ2_get G v3 w3) fun r4 =>
    sd_bnd (sd_cast G [11] r4) fun _ =>
    sd_bnd (sd_getR G 2 6 w0) fun v5 =>
    sd_bnd (sd_aldI G 0 v5 w3) fun v6 =>
    if v6 = 1 then (
      sd_bnd (sd_getI G 11 2 r4) fun v8 =>
      if v8 ≤ w1 then (
        sd_bnd (sd_getI G 11 0 r4) fun v9 =>
        if v9 = 0 then (
          sd_bnd (sd_getR G 2 3 w0) fun v10 =>
          sd_bnd (sd_getI G 11 1 r4) fun v11 =>
          sd_bnd (sd_isC G 41 v10) fun _ =>
          sd_bnd (fJ2_get G v10 v11) fun r12 =>
          sd_bnd (sd_cast G [10] r12) fun _ =>
          sd_bnd (sd_getI G 10 0 r12) fun v13 =>
          sd_bnd (fJ4_max G w2 v13) fun r14 =>
          sd_bnd (sd_ret (w3 + 1)) fun x15 =>
          k4 (w0, w1, r14, x15))
        else (
          sd_bnd (sd_getI G 11 1 r4) fun v16 =>
          sd_bnd (fJ4_max G w2 v16) fun r17 =>
          sd_bnd (sd_ret (w3 + 1)) fun x18 =>
          k4 (w0, w1, r17, x18)))
      else (
        sd_bnd (sd_ret (w3 + 1)) fun x19 =>
        k4 (w0, w1, w2, x19)))
    else (
      sd_bnd (sd_ret (w3 + 1)) fun x7 =>
      k4 (w0, w1, w2, x7)))
set_option maxHeartbeats 4000000 in
theorem sX3_notBefore_b4 (l : Launch) (G : sd_G) (a0 : Nat) (a1 : Int32) (ρ : Int32) (h2 : sd_H) (cT : Nat × Nat) (k4 : Nat × Int32 × Int32 × Int32 → sd_M Int32) (Hk4 : ∀ (q : Nat × Int32 × Int32 × Int32) (h : sd_H) (c : Nat × Nat), k4 q h = some (ρ, c, h2) → sd_J mX3_notBefore ((l, G), (3, 64), [.ref a0, .int a1], (sd_oI ρ, h2), cT) 4 [(0, .ref q.1), (1, .int q.2.1), (2, .int q.2.2.1), (3, .int q.2.2.2)] [] h c) (w0 : Nat) (w1 : Int32) (w2 : Int32) (w3 : Int32) (h : sd_H) (c : Nat × Nat) (hf : fX3_notBefore_b4 G k4 w0 w1 w2 w3 h = some (ρ, c, h2)) : sd_J mX3_notBefore ((l, G), (3, 64), [.ref a0, .int a1], (sd_oI ρ, h2), cT) 4 [(0, .ref w0), (1, .int w1), (2, .int w2), (3, .int w3)] [] h c := by
  unfold fX3_notBefore_b4 at hf
  refine sj_iload_n 3 dX3_notBefore_4 rfl ?_
  refine sj_aload_n 0 dX3_notBefore_5 rfl ?_
  refine sj_getR fdX3_28_2 hf dX3_notBefore_6 (fun v1 hf => ?_)
  obtain ⟨fs9, he9, hf⟩ := sd_isC_some hf
  refine sj_cI (rest := [.int w3]) (fun _ _ _ e => sj_runV (n := 0) (As := []) (rest := [.int w3]) (sJ2_size l G v1 h _ _ _ e) he9 rfl rfl rfl rfl q2129 q490 q491 q121 q492 (by decide +kernel) rfl rfl ⟨Nat.le_of_ble_eq_true rfl, Nat.le_of_ble_eq_true rfl⟩ rfl (Nat.le_of_ble_eq_true rfl) dX3_notBefore_9) hf (fun r2 h c hf => ?_)
  refine sj_icge 95 hf dX3_notBefore_12 (by decide) (fun g12 hf => ?_) (fun g12 hf => ?_)
  · refine sj_iload_n 2 dX3_notBefore_95 rfl ?_
    exact sj_iret (o := sd_oI) hf rfl rfl rfl dX3_notBefore_96
  · refine sj_aload_n 0 dX3_notBefore_15 rfl ?_
    refine sj_getR fdX3_28_2 hf dX3_notBefore_16 (fun v3 hf => ?_)
    refine sj_iload_n 3 dX3_notBefore_19 rfl ?_
    obtain ⟨fs20, he20, hf⟩ := sd_isC_some hf
    refine sj_cR (rest := []) (fun _ _ _ e => sj_runV (n := 1) (As := [.int w3]) (rest := []) (sJ2_get l G v3 w3 h _ _ _ e) he20 rfl rfl rfl rfl q2158 q1002 q3425 q121 q1004 (by decide +kernel) rfl rfl ⟨Nat.le_of_ble_eq_true rfl, Nat.le_of_ble_eq_true rfl⟩ rfl (Nat.le_of_ble_eq_true rfl) dX3_notBefore_20) hf (fun r4 h c hf => ?_)
    obtain ⟨ci23, fs23, he23, hm23, hf⟩ := sd_cast_some hf
    refine sj_cast he23 hm23 fc_SofaDig_Find q2276 dX3_notBefore_23 ?_
    refine sj_astore [(4, .ref r4), (0, .ref w0), (1, .int w1), (2, .int w2), (3, .int w3)] dX3_notBefore_26 (by decide) rfl ?_
    refine sj_aload_n 1 dX3_notBefore_28 rfl ?_
    refine sj_getR fdX3_34_2 hf dX3_notBefore_29 (fun v5 hf => ?_)
    refine sj_iload_n 4 dX3_notBefore_32 rfl ?_
    refine sj_iald hf dX3_notBefore_33 (fun v6 hf => ?_)
    refine sj_iconst (v := 1) dX3_notBefore_34 (by decide) ?_
    refine sj_icne 89 hf dX3_notBefore_35 (by decide) (fun g35 hf => ?_) (fun g35 hf => ?_)
    · refine sj_iincN 4 (fun x7 => [(3, .int x7), (4, .ref r4), (0, .ref w0), (1, .int w1), (2, .int w2)]) 1 hf dX3_notBefore_89 rfl (by decide) (by decide) (fun _ => rfl) (fun x7 hf => ?_)
      refine sj_goto 4 dX3_notBefore_92 (by decide) ?_
      exact sj_loc [2, 3, 4, 0] rfl (Hk4 (w0, w1, w2, x7) _ _ hf)
    · refine sj_aload 0 dX3_notBefore_38 rfl ?_
      refine sj_getI fdX3_126_11 hf dX3_notBefore_40 (fun v8 hf => ?_)
      refine sj_iload_n 2 dX3_notBefore_43 rfl ?_
      refine sj_icle 50 hf dX3_notBefore_44 (by decide) (fun g44 hf => ?_) (fun g44 hf => ?_)
      · refine sj_iload_n 3 dX3_notBefore_50 rfl ?_
        refine sj_aload 0 dX3_notBefore_51 rfl ?_
        refine sj_getI fdX3_129_11 hf dX3_notBefore_53 (fun v9 hf => ?_)
        refine sj_ifeq 67 hf dX3_notBefore_56 (by decide) (fun g56 hf => ?_) (fun g56 hf => ?_)
        · refine sj_aload_n 1 dX3_notBefore_67 rfl ?_
          refine sj_getR fdX3_25_2 hf dX3_notBefore_68 (fun v10 hf => ?_)
          refine sj_aload 0 dX3_notBefore_71 rfl ?_
          refine sj_getI fdX3_132_11 hf dX3_notBefore_73 (fun v11 hf => ?_)
          obtain ⟨fs76, he76, hf⟩ := sd_isC_some hf
          refine sj_cR (rest := [.int w2]) (fun _ _ _ e => sj_runV (n := 1) (As := [.int v11]) (rest := [.int w2]) (sJ2_get l G v10 v11 h _ _ _ e) he76 rfl rfl rfl rfl q2158 q1002 q3425 q121 q1004 (by decide +kernel) rfl rfl ⟨Nat.le_of_ble_eq_true rfl, Nat.le_of_ble_eq_true rfl⟩ rfl (Nat.le_of_ble_eq_true rfl) dX3_notBefore_76) hf (fun r12 h c hf => ?_)
          obtain ⟨ci79, fs79, he79, hm79, hf⟩ := sd_cast_some hf
          refine sj_cast he79 hm79 fc_SofaDig_Empire q2302 dX3_notBefore_79 ?_
          refine sj_getI fdX3_137_10 hf dX3_notBefore_82 (fun v13 hf => ?_)
          refine sj_cI (rest := []) (fun _ _ _ e => sj_runS (n := 2) (rest := []) (sJ4_max l G w2 v13 h _ _ _ e) rfl rfl q2303 q357 q124 q358 (by decide +kernel) rfl ⟨Nat.le_of_ble_eq_true rfl, Nat.le_of_ble_eq_true rfl⟩ rfl (Nat.le_of_ble_eq_true rfl) dX3_notBefore_85) hf (fun r14 h c hf => ?_)
          refine sj_istore_n [(2, .int r14), (4, .ref r4), (0, .ref w0), (1, .int w1), (3, .int w3)] dX3_notBefore_88 (by decide) rfl ?_
          refine sj_iincN 4 (fun x15 => [(3, .int x15), (2, .int r14), (4, .ref r4), (0, .ref w0), (1, .int w1)]) 1 hf dX3_notBefore_89 rfl (by decide) (by decide) (fun _ => rfl) (fun x15 hf => ?_)
          refine sj_goto 4 dX3_notBefore_92 (by decide) ?_
          exact sj_loc [3, 4, 1, 0] rfl (Hk4 (w0, w1, r14, x15) _ _ hf)
        · refine sj_aload 0 dX3_notBefore_59 rfl ?_
          refine sj_getI fdX3_132_11 hf dX3_notBefore_61 (fun v16 hf => ?_)
          refine sj_goto 85 dX3_notBefore_64 (by decide) ?_
          refine sj_cI (rest := []) (fun _ _ _ e => sj_runS (n := 2) (rest := []) (sJ4_max l G w2 v16 h _ _ _ e) rfl rfl q2303 q357 q124 q358 (by decide +kernel) rfl ⟨Nat.le_of_ble_eq_true rfl, Nat.le_of_ble_eq_true rfl⟩ rfl (Nat.le_of_ble_eq_true rfl) dX3_notBefore_85) hf (fun r17 h c hf => ?_)
          refine sj_istore_n [(2, .int r17), (4, .ref r4), (0, .ref w0), (1, .int w1), (3, .int w3)] dX3_notBefore_88 (by decide) rfl ?_
          refine sj_iincN 4 (fun x18 => [(3, .int x18), (2, .int r17), (4, .ref r4), (0, .ref w0), (1, .int w1)]) 1 hf dX3_notBefore_89 rfl (by decide) (by decide) (fun _ => rfl) (fun x18 hf => ?_)
          refine sj_goto 4 dX3_notBefore_92 (by decide) ?_
          exact sj_loc [3, 4, 1, 0] rfl (Hk4 (w0, w1, r17, x18) _ _ hf)
      · refine sj_goto 89 dX3_notBefore_47 (by decide) ?_
        refine sj_iincN 4 (fun x19 => [(3, .int x19), (4, .ref r4), (0, .ref w0), (1, .int w1), (2, .int w2)]) 1 hf dX3_notBefore_89 rfl (by decide) (by decide) (fun _ => rfl) (fun x19 hf => ?_)
        refine sj_goto 4 dX3_notBefore_92 (by decide) ?_
        exact sj_loc [2, 3, 4, 0] rfl (Hk4 (w0, w1, w2, x19) _ _ hf)
theorem sX3_notBefore_b4_loop (l : Launch) (G : sd_G) (a0 : Nat) (a1 : Int32) (ρ : Int32) (h2 : sd_H) (cT : Nat × Nat) (n : Nat) : ∀ (q : Nat × Int32 × Int32 × Int32) (h : sd_H) (c : Nat × Nat), sd_loop (fun k s => fX3_notBefore_b4 G k s.1 s.2.1 s.2.2.1 s.2.2.2) n q h = some (ρ, c, h2) → sd_J mX3_notBefore ((l, G), (3, 64), [.ref a0, .int a1], (sd_oI ρ, h2), cT) 4 [(0, .ref q.1), (1, .int q.2.1), (2, .int q.2.2.1), (3, .int q.2.2.2)] [] h c := by
  induction n with
  | zero => intro q h c hf; cases hf
  | succ n ih => intro q h c hf; exact sX3_notBefore_b4 l G a0 a1 ρ h2 cT _ ih _ _ _ _ _ _ hf
def fX3_notBefore (G : sd_G) (a0 : Nat) (a1 : Int32) : sd_M Int32 :=
  sd_loop (fun k s => fX3_notBefore_b4 G k s.1 s.2.1 s.2.2.1 s.2.2.2) sd_FU (a0, a1, (-1), 0)
set_option maxHeartbeats 4000000 in
theorem sX3_notBefore (l : Launch) (G : sd_G) (a0 : Nat) (a1 : Int32) (h : sd_H) (ρ : Int32) (cT : Nat × Nat) (h2 : sd_H) (hf : fX3_notBefore G a0 a1 h = some (ρ, cT, h2)) : sd_Met mX3_notBefore ((l, G), (3, 64), [.ref a0, .int a1], (sd_oI ρ, h2), cT) h := by
  refine sd_entry (plainFor_of_name rfl) rfl (Nat.le_of_ble_eq_true rfl) ?_
  show sd_J mX3_notBefore ((l, G), (3, 64), [.ref a0, .int a1], (sd_oI ρ, h2), cT) 0 [(0, .ref a0), (1, .int a1)] [] h cT
  unfold fX3_notBefore at hf
  refine sj_iconst (v := (-1)) dX3_notBefore_0 (by decide) ?_
  refine sj_istore_n [(2, .int (-1)), (0, .ref a0), (1, .int a1)] dX3_notBefore_1 (by decide) rfl ?_
  refine sj_iconst (v := 0) dX3_notBefore_2 (by decide) ?_
  refine sj_istore_n [(3, .int 0), (2, .int (-1)), (0, .ref a0), (1, .int a1)] dX3_notBefore_3 (by decide) rfl ?_
  exact sj_loc [2, 3, 1, 0] rfl (sX3_notBefore_b4_loop l G a0 a1 ρ h2 cT sd_FU (a0, a1, (-1), 0) _ _ hf)
/-! SofaDig$Sofa.isSeenIn(II)Z -/
abbrev cX3_isSeenIn : ByteArray := prog_29_method_19_code
def yX3_isSeenIn : MethodName := ⟨RX3, "isSeenIn", "(II)Z"⟩
def dkwX3_isSeenIn_3 : List UInt8 := [3, 172]
abbrev dktX3_isSeenIn_3 : List UInt8 := dkwX3_isSeenIn_3 ++ []
def dkwX3_isSeenIn_2 : List UInt8 := [180, 0, 132, 28, 160, 0, 14, 25, 4, 180, 0, 126, 27, 160, 0, 5, 4, 172, 132, 3, 1, 167, 255, 191]
abbrev dktX3_isSeenIn_2 : List UInt8 := dkwX3_isSeenIn_2 ++ dktX3_isSeenIn_3
def dkwX3_isSeenIn_1 : List UInt8 := [58, 4, 42, 180, 0, 34, 29, 46, 4, 160, 0, 31, 25, 4, 180, 0, 129, 154, 0, 23, 25, 4]
abbrev dktX3_isSeenIn_1 : List UInt8 := dkwX3_isSeenIn_1 ++ dktX3_isSeenIn_2
def dkwX3_isSeenIn_0 : List UInt8 := [3, 62, 29, 42, 180, 0, 28, 182, 0, 54, 162, 0, 60, 42, 180, 0, 28, 29, 182, 0, 50, 192, 0, 124]
abbrev dktX3_isSeenIn_0 : List UInt8 := dkwX3_isSeenIn_0 ++ dktX3_isSeenIn_1
theorem dksX3_isSeenIn_0 : cX3_isSeenIn.data.toList.drop 0 = dktX3_isSeenIn_0 := by decide +kernel
theorem dksX3_isSeenIn_1 : cX3_isSeenIn.data.toList.drop 24 = dktX3_isSeenIn_1 := dk_seg dksX3_isSeenIn_0 24 rfl rfl
theorem dksX3_isSeenIn_2 : cX3_isSeenIn.data.toList.drop 46 = dktX3_isSeenIn_2 := dk_seg dksX3_isSeenIn_1 22 rfl rfl
theorem dksX3_isSeenIn_3 : cX3_isSeenIn.data.toList.drop 70 = dktX3_isSeenIn_3 := dk_seg dksX3_isSeenIn_2 24 rfl rfl
theorem dX3_isSeenIn_0 : decode cX3_isSeenIn 0 = .ok (.iconst 0, 1) := dk_3 (dk_at dksX3_isSeenIn_0 0 rfl rfl)
theorem dX3_isSeenIn_1 : decode cX3_isSeenIn 1 = .ok (.istore_n 3, 1) := dk_62 (dk_at dksX3_isSeenIn_0 1 rfl rfl)
theorem dX3_isSeenIn_2 : decode cX3_isSeenIn 2 = .ok (.iload_n 3, 1) := dk_29 (dk_at dksX3_isSeenIn_0 2 rfl rfl)
theorem dX3_isSeenIn_3 : decode cX3_isSeenIn 3 = .ok (.aload_n 0, 1) := dk_42 (dk_at dksX3_isSeenIn_0 3 rfl rfl)
theorem dX3_isSeenIn_4 : decode cX3_isSeenIn 4 = .ok (.getfield 28, 3) := dk_180 0 28 (dk_at dksX3_isSeenIn_0 4 rfl rfl)
theorem dX3_isSeenIn_7 : decode cX3_isSeenIn 7 = .ok (.invokevirtual 54, 3) := dk_182 0 54 (dk_at dksX3_isSeenIn_0 7 rfl rfl)
theorem dX3_isSeenIn_10 : decode cX3_isSeenIn 10 = .ok (.if_icmp .ge 60, 3) := dk_162 0 60 (dk_at dksX3_isSeenIn_0 10 rfl rfl)
theorem dX3_isSeenIn_13 : decode cX3_isSeenIn 13 = .ok (.aload_n 0, 1) := dk_42 (dk_at dksX3_isSeenIn_0 13 rfl rfl)
theorem dX3_isSeenIn_14 : decode cX3_isSeenIn 14 = .ok (.getfield 28, 3) := dk_180 0 28 (dk_at dksX3_isSeenIn_0 14 rfl rfl)
theorem dX3_isSeenIn_17 : decode cX3_isSeenIn 17 = .ok (.iload_n 3, 1) := dk_29 (dk_at dksX3_isSeenIn_0 17 rfl rfl)
theorem dX3_isSeenIn_18 : decode cX3_isSeenIn 18 = .ok (.invokevirtual 50, 3) := dk_182 0 50 (dk_at dksX3_isSeenIn_0 18 rfl rfl)
theorem dX3_isSeenIn_21 : decode cX3_isSeenIn 21 = .ok (.checkcast 124, 3) := dk_192 0 124 (dk_at dksX3_isSeenIn_0 21 rfl rfl)
theorem dX3_isSeenIn_24 : decode cX3_isSeenIn 24 = .ok (.astore 4, 2) := dk_58 4 (dk_at dksX3_isSeenIn_1 0 rfl rfl)
theorem dX3_isSeenIn_26 : decode cX3_isSeenIn 26 = .ok (.aload_n 0, 1) := dk_42 (dk_at dksX3_isSeenIn_1 2 rfl rfl)
theorem dX3_isSeenIn_27 : decode cX3_isSeenIn 27 = .ok (.getfield 34, 3) := dk_180 0 34 (dk_at dksX3_isSeenIn_1 3 rfl rfl)
theorem dX3_isSeenIn_30 : decode cX3_isSeenIn 30 = .ok (.iload_n 3, 1) := dk_29 (dk_at dksX3_isSeenIn_1 6 rfl rfl)
theorem dX3_isSeenIn_31 : decode cX3_isSeenIn 31 = .ok (.iaload, 1) := dk_46 (dk_at dksX3_isSeenIn_1 7 rfl rfl)
theorem dX3_isSeenIn_32 : decode cX3_isSeenIn 32 = .ok (.iconst 1, 1) := dk_4 (dk_at dksX3_isSeenIn_1 8 rfl rfl)
theorem dX3_isSeenIn_33 : decode cX3_isSeenIn 33 = .ok (.if_icmp .ne 31, 3) := dk_160 0 31 (dk_at dksX3_isSeenIn_1 9 rfl rfl)
theorem dX3_isSeenIn_36 : decode cX3_isSeenIn 36 = .ok (.aload 4, 2) := dk_25 4 (dk_at dksX3_isSeenIn_1 12 rfl rfl)
theorem dX3_isSeenIn_38 : decode cX3_isSeenIn 38 = .ok (.getfield 129, 3) := dk_180 0 129 (dk_at dksX3_isSeenIn_1 14 rfl rfl)
theorem dX3_isSeenIn_41 : decode cX3_isSeenIn 41 = .ok (.ifCond .ne 23, 3) := dk_154 0 23 (dk_at dksX3_isSeenIn_1 17 rfl rfl)
theorem dX3_isSeenIn_44 : decode cX3_isSeenIn 44 = .ok (.aload 4, 2) := dk_25 4 (dk_at dksX3_isSeenIn_1 20 rfl rfl)
theorem dX3_isSeenIn_46 : decode cX3_isSeenIn 46 = .ok (.getfield 132, 3) := dk_180 0 132 (dk_at dksX3_isSeenIn_2 0 rfl rfl)
theorem dX3_isSeenIn_49 : decode cX3_isSeenIn 49 = .ok (.iload_n 2, 1) := dk_28 (dk_at dksX3_isSeenIn_2 3 rfl rfl)
theorem dX3_isSeenIn_50 : decode cX3_isSeenIn 50 = .ok (.if_icmp .ne 14, 3) := dk_160 0 14 (dk_at dksX3_isSeenIn_2 4 rfl rfl)
theorem dX3_isSeenIn_53 : decode cX3_isSeenIn 53 = .ok (.aload 4, 2) := dk_25 4 (dk_at dksX3_isSeenIn_2 7 rfl rfl)
theorem dX3_isSeenIn_55 : decode cX3_isSeenIn 55 = .ok (.getfield 126, 3) := dk_180 0 126 (dk_at dksX3_isSeenIn_2 9 rfl rfl)
theorem dX3_isSeenIn_58 : decode cX3_isSeenIn 58 = .ok (.iload_n 1, 1) := dk_27 (dk_at dksX3_isSeenIn_2 12 rfl rfl)
theorem dX3_isSeenIn_59 : decode cX3_isSeenIn 59 = .ok (.if_icmp .ne 5, 3) := dk_160 0 5 (dk_at dksX3_isSeenIn_2 13 rfl rfl)
theorem dX3_isSeenIn_62 : decode cX3_isSeenIn 62 = .ok (.iconst 1, 1) := dk_4 (dk_at dksX3_isSeenIn_2 16 rfl rfl)
theorem dX3_isSeenIn_63 : decode cX3_isSeenIn 63 = .ok (.ireturn, 1) := dk_172 (dk_at dksX3_isSeenIn_2 17 rfl rfl)
theorem dX3_isSeenIn_64 : decode cX3_isSeenIn 64 = .ok (.iinc 3 1, 3) := dk_132 3 1 (dk_at dksX3_isSeenIn_2 18 rfl rfl)
theorem dX3_isSeenIn_67 : decode cX3_isSeenIn 67 = .ok (.goto (-65), 3) := dk_167 255 191 (dk_at dksX3_isSeenIn_2 21 rfl rfl)
theorem dX3_isSeenIn_70 : decode cX3_isSeenIn 70 = .ok (.iconst 0, 1) := dk_3 (dk_at dksX3_isSeenIn_3 0 rfl rfl)
theorem dX3_isSeenIn_71 : decode cX3_isSeenIn 71 = .ok (.ireturn, 1) := dk_172 (dk_at dksX3_isSeenIn_3 1 rfl rfl)
abbrev mX3_isSeenIn : sd_Y := (yX3_isSeenIn, cX3_isSeenIn, 5, some (.boolean), none)
def fX3_isSeenIn_b2 (G : sd_G) (k2 : Nat × Int32 × Int32 × Int32 → sd_M Int32) (w0 : Nat) (w1 : Int32) (w2 : Int32) (w3 : Int32) : sd_M Int32 :=
  sd_bnd (sd_getR G 2 4 w0) fun v1 =>
  sd_bnd (sd_isC G 41 v1) fun _ =>
  sd_bnd (fJ2_size G v1) fun r2 =>
  if r2 ≤ w3 then (
    sd_ret 0)
  else (
    sd_bnd (sd_getR G 2 4 w0) fun v3 =>
    sd_bnd (sd_isC G 41 v3) fun _ =>
    sd_bnd (fJ2_get G v3 w3) fun r4 =>
    sd_bnd (sd_cast G [11] r4) fun _ =>
    sd_bnd (sd_getR G 2 6 w0) fun v5 =>
    sd_bnd (sd_aldI G 0 v5 w3) fun v6 =>
    if v6 = 1 then (
      sd_bnd (sd_getI G 11 0 r4) fun v8 =>
      if v8 = 0 then (
        sd_bnd (sd_getI G 11 1 r4) fun v10 =>
        if v10 = w2 then (
          sd_bnd (sd_getI G 11 2 r4) fun v12 =>
          if v12 = w1 then (
            sd_ret 1)
          else (
            sd_bnd (sd_ret (w3 + 1)) fun x13 =>
            k2 (w0, w1, w2, x13)))
        else (
          sd_bnd (sd_ret (w3 + 1)) fun x11 =>
          k2 (w0, w1, w2, x11)))
      else (
        sd_bnd (sd_ret (w3 + 1)) fun x9 =>
        k2 (w0, w1, w2, x9)))
    else (
      sd_bnd (sd_ret (w3 + 1)) fun x7 =>
      k2 (w0, w1, w2, x7)))
set_option maxHeartbeats 4000000 in
theorem sX3_isSeenIn_b2 (l : Launch) (G : sd_G) (a0 : Nat) (a1 : Int32) (a2 : Int32) (ρ : Int32) (h2 : sd_H) (cT : Nat × Nat) (k2 : Nat × Int32 × Int32 × Int32 → sd_M Int32) (Hk2 : ∀ (q : Nat × Int32 × Int32 × Int32) (h : sd_H) (c : Nat × Nat), k2 q h = some (ρ, c, h2) → sd_J mX3_isSeenIn ((l, G), (3, 64), [.ref a0, .int a1, .int a2], (sd_oI ρ, h2), cT) 2 [(0, .ref q.1), (1, .int q.2.1), (2, .int q.2.2.1), (3, .int q.2.2.2)] [] h c) (w0 : Nat) (w1 : Int32) (w2 : Int32) (w3 : Int32) (h : sd_H) (c : Nat × Nat) (hf : fX3_isSeenIn_b2 G k2 w0 w1 w2 w3 h = some (ρ, c, h2)) : sd_J mX3_isSeenIn ((l, G), (3, 64), [.ref a0, .int a1, .int a2], (sd_oI ρ, h2), cT) 2 [(0, .ref w0), (1, .int w1), (2, .int w2), (3, .int w3)] [] h c := by
  unfold fX3_isSeenIn_b2 at hf
  refine sj_iload_n 3 dX3_isSeenIn_2 rfl ?_
  refine sj_aload_n 0 dX3_isSeenIn_3 rfl ?_
  refine sj_getR fdX3_28_2 hf dX3_isSeenIn_4 (fun v1 hf => ?_)
  obtain ⟨fs7, he7, hf⟩ := sd_isC_some hf
  refine sj_cI (rest := [.int w3]) (fun _ _ _ e => sj_runV (n := 0) (As := []) (rest := [.int w3]) (sJ2_size l G v1 h _ _ _ e) he7 rfl rfl rfl rfl q2129 q490 q491 q121 q492 (by decide +kernel) rfl rfl ⟨Nat.le_of_ble_eq_true rfl, Nat.le_of_ble_eq_true rfl⟩ rfl (Nat.le_of_ble_eq_true rfl) dX3_isSeenIn_7) hf (fun r2 h c hf => ?_)
  refine sj_icge 70 hf dX3_isSeenIn_10 (by decide) (fun g10 hf => ?_) (fun g10 hf => ?_)
  · refine sj_iconst (v := 0) dX3_isSeenIn_70 (by decide) ?_
    exact sj_zretC (o := sd_oI) (ty := .boolean) rfl hf rfl rfl rfl dX3_isSeenIn_71
  · refine sj_aload_n 0 dX3_isSeenIn_13 rfl ?_
    refine sj_getR fdX3_28_2 hf dX3_isSeenIn_14 (fun v3 hf => ?_)
    refine sj_iload_n 3 dX3_isSeenIn_17 rfl ?_
    obtain ⟨fs18, he18, hf⟩ := sd_isC_some hf
    refine sj_cR (rest := []) (fun _ _ _ e => sj_runV (n := 1) (As := [.int w3]) (rest := []) (sJ2_get l G v3 w3 h _ _ _ e) he18 rfl rfl rfl rfl q2158 q1002 q3425 q121 q1004 (by decide +kernel) rfl rfl ⟨Nat.le_of_ble_eq_true rfl, Nat.le_of_ble_eq_true rfl⟩ rfl (Nat.le_of_ble_eq_true rfl) dX3_isSeenIn_18) hf (fun r4 h c hf => ?_)
    obtain ⟨ci21, fs21, he21, hm21, hf⟩ := sd_cast_some hf
    refine sj_cast he21 hm21 fc_SofaDig_Find q2276 dX3_isSeenIn_21 ?_
    refine sj_astore [(4, .ref r4), (0, .ref w0), (1, .int w1), (2, .int w2), (3, .int w3)] dX3_isSeenIn_24 (by decide) rfl ?_
    refine sj_aload_n 1 dX3_isSeenIn_26 rfl ?_
    refine sj_getR fdX3_34_2 hf dX3_isSeenIn_27 (fun v5 hf => ?_)
    refine sj_iload_n 4 dX3_isSeenIn_30 rfl ?_
    refine sj_iald hf dX3_isSeenIn_31 (fun v6 hf => ?_)
    refine sj_iconst (v := 1) dX3_isSeenIn_32 (by decide) ?_
    refine sj_icne 64 hf dX3_isSeenIn_33 (by decide) (fun g33 hf => ?_) (fun g33 hf => ?_)
    · refine sj_iincN 4 (fun x7 => [(3, .int x7), (4, .ref r4), (0, .ref w0), (1, .int w1), (2, .int w2)]) 1 hf dX3_isSeenIn_64 rfl (by decide) (by decide) (fun _ => rfl) (fun x7 hf => ?_)
      refine sj_goto 2 dX3_isSeenIn_67 (by decide) ?_
      exact sj_loc [2, 3, 4, 0] rfl (Hk2 (w0, w1, w2, x7) _ _ hf)
    · refine sj_aload 0 dX3_isSeenIn_36 rfl ?_
      refine sj_getI fdX3_129_11 hf dX3_isSeenIn_38 (fun v8 hf => ?_)
      refine sj_ifne 64 hf dX3_isSeenIn_41 (by decide) (fun g41 hf => ?_) (fun g41 hf => ?_)
      · refine sj_iincN 4 (fun x9 => [(3, .int x9), (4, .ref r4), (0, .ref w0), (1, .int w1), (2, .int w2)]) 1 hf dX3_isSeenIn_64 rfl (by decide) (by decide) (fun _ => rfl) (fun x9 hf => ?_)
        refine sj_goto 2 dX3_isSeenIn_67 (by decide) ?_
        exact sj_loc [2, 3, 4, 0] rfl (Hk2 (w0, w1, w2, x9) _ _ hf)
      · refine sj_aload 0 dX3_isSeenIn_44 rfl ?_
        refine sj_getI fdX3_132_11 hf dX3_isSeenIn_46 (fun v10 hf => ?_)
        refine sj_iload_n 3 dX3_isSeenIn_49 rfl ?_
        refine sj_icne 64 hf dX3_isSeenIn_50 (by decide) (fun g50 hf => ?_) (fun g50 hf => ?_)
        · refine sj_iincN 4 (fun x11 => [(3, .int x11), (4, .ref r4), (0, .ref w0), (1, .int w1), (2, .int w2)]) 1 hf dX3_isSeenIn_64 rfl (by decide) (by decide) (fun _ => rfl) (fun x11 hf => ?_)
          refine sj_goto 2 dX3_isSeenIn_67 (by decide) ?_
          exact sj_loc [2, 3, 4, 0] rfl (Hk2 (w0, w1, w2, x11) _ _ hf)
        · refine sj_aload 0 dX3_isSeenIn_53 rfl ?_
          refine sj_getI fdX3_126_11 hf dX3_isSeenIn_55 (fun v12 hf => ?_)
          refine sj_iload_n 2 dX3_isSeenIn_58 rfl ?_
          refine sj_icne 64 hf dX3_isSeenIn_59 (by decide) (fun g59 hf => ?_) (fun g59 hf => ?_)
          · refine sj_iincN 4 (fun x13 => [(3, .int x13), (4, .ref r4), (0, .ref w0), (1, .int w1), (2, .int w2)]) 1 hf dX3_isSeenIn_64 rfl (by decide) (by decide) (fun _ => rfl) (fun x13 hf => ?_)
            refine sj_goto 2 dX3_isSeenIn_67 (by decide) ?_
            exact sj_loc [2, 3, 4, 0] rfl (Hk2 (w0, w1, w2, x13) _ _ hf)
          · refine sj_iconst (v := 1) dX3_isSeenIn_62 (by decide) ?_
            exact sj_zretC (o := sd_oI) (ty := .boolean) rfl hf rfl rfl rfl dX3_isSeenIn_63
theorem sX3_isSeenIn_b2_loop (l : Launch) (G : sd_G) (a0 : Nat) (a1 : Int32) (a2 : Int32) (ρ : Int32) (h2 : sd_H) (cT : Nat × Nat) (n : Nat) : ∀ (q : Nat × Int32 × Int32 × Int32) (h : sd_H) (c : Nat × Nat), sd_loop (fun k s => fX3_isSeenIn_b2 G k s.1 s.2.1 s.2.2.1 s.2.2.2) n q h = some (ρ, c, h2) → sd_J mX3_isSeenIn ((l, G), (3, 64), [.ref a0, .int a1, .int a2], (sd_oI ρ, h2), cT) 2 [(0, .ref q.1), (1, .int q.2.1), (2, .int q.2.2.1), (3, .int q.2.2.2)] [] h c := by
  induction n with
  | zero => intro q h c hf; cases hf
  | succ n ih => intro q h c hf; exact sX3_isSeenIn_b2 l G a0 a1 a2 ρ h2 cT _ ih _ _ _ _ _ _ hf
def fX3_isSeenIn (G : sd_G) (a0 : Nat) (a1 : Int32) (a2 : Int32) : sd_M Int32 :=
  sd_loop (fun k s => fX3_isSeenIn_b2 G k s.1 s.2.1 s.2.2.1 s.2.2.2) sd_FU (a0, a1, a2, 0)
set_option maxHeartbeats 4000000 in
theorem sX3_isSeenIn (l : Launch) (G : sd_G) (a0 : Nat) (a1 : Int32) (a2 : Int32) (h : sd_H) (ρ : Int32) (cT : Nat × Nat) (h2 : sd_H) (hf : fX3_isSeenIn G a0 a1 a2 h = some (ρ, cT, h2)) : sd_Met mX3_isSeenIn ((l, G), (3, 64), [.ref a0, .int a1, .int a2], (sd_oI ρ, h2), cT) h := by
  refine sd_entry (plainFor_of_name rfl) rfl (Nat.le_of_ble_eq_true rfl) ?_
  show sd_J mX3_isSeenIn ((l, G), (3, 64), [.ref a0, .int a1, .int a2], (sd_oI ρ, h2), cT) 0 [(0, .ref a0), (1, .int a1), (2, .int a2)] [] h cT
  unfold fX3_isSeenIn at hf
  refine sj_iconst (v := 0) dX3_isSeenIn_0 (by decide) ?_
  refine sj_istore_n [(3, .int 0), (0, .ref a0), (1, .int a1), (2, .int a2)] dX3_isSeenIn_1 (by decide) rfl ?_
  exact sj_loc [1, 2, 3, 0] rfl (sX3_isSeenIn_b2_loop l G a0 a1 a2 ρ h2 cT sd_FU (a0, a1, a2, 0) _ _ hf)
/-! SofaDig$Sofa.isMixed(I)Z -/
abbrev cX3_isMixed : ByteArray := prog_29_method_20_code
def yX3_isMixed : MethodName := ⟨RX3, "isMixed", "(I)Z"⟩
def dkwX3_isMixed_3 : List UInt8 := [182, 0, 149, 153, 0, 5, 4, 172, 132, 3, 1, 167, 255, 191, 132, 2, 1, 167, 255, 172, 3, 172]
abbrev dktX3_isMixed_3 : List UInt8 := dkwX3_isMixed_3 ++ []
def dkwX3_isMixed_2 : List UInt8 := [182, 0, 50, 192, 0, 135, 180, 0, 137, 162, 0, 23, 42, 27, 28, 182, 0, 149, 153, 0, 14, 42, 27, 29]
abbrev dktX3_isMixed_2 : List UInt8 := dkwX3_isMixed_2 ++ dktX3_isMixed_3
def dkwX3_isMixed_1 : List UInt8 := [162, 0, 60, 42, 180, 0, 25, 28, 182, 0, 50, 192, 0, 135, 180, 0, 146, 42, 180, 0, 25, 29]
abbrev dktX3_isMixed_1 : List UInt8 := dkwX3_isMixed_1 ++ dktX3_isMixed_2
def dkwX3_isMixed_0 : List UInt8 := [3, 61, 28, 42, 180, 0, 25, 182, 0, 54, 162, 0, 79, 3, 62, 29, 42, 180, 0, 25, 182, 0, 54]
abbrev dktX3_isMixed_0 : List UInt8 := dkwX3_isMixed_0 ++ dktX3_isMixed_1
theorem dksX3_isMixed_0 : cX3_isMixed.data.toList.drop 0 = dktX3_isMixed_0 := by decide +kernel
theorem dksX3_isMixed_1 : cX3_isMixed.data.toList.drop 23 = dktX3_isMixed_1 := dk_seg dksX3_isMixed_0 23 rfl rfl
theorem dksX3_isMixed_2 : cX3_isMixed.data.toList.drop 45 = dktX3_isMixed_2 := dk_seg dksX3_isMixed_1 22 rfl rfl
theorem dksX3_isMixed_3 : cX3_isMixed.data.toList.drop 69 = dktX3_isMixed_3 := dk_seg dksX3_isMixed_2 24 rfl rfl
theorem dX3_isMixed_0 : decode cX3_isMixed 0 = .ok (.iconst 0, 1) := dk_3 (dk_at dksX3_isMixed_0 0 rfl rfl)
theorem dX3_isMixed_1 : decode cX3_isMixed 1 = .ok (.istore_n 2, 1) := dk_61 (dk_at dksX3_isMixed_0 1 rfl rfl)
theorem dX3_isMixed_2 : decode cX3_isMixed 2 = .ok (.iload_n 2, 1) := dk_28 (dk_at dksX3_isMixed_0 2 rfl rfl)
theorem dX3_isMixed_3 : decode cX3_isMixed 3 = .ok (.aload_n 0, 1) := dk_42 (dk_at dksX3_isMixed_0 3 rfl rfl)
theorem dX3_isMixed_4 : decode cX3_isMixed 4 = .ok (.getfield 25, 3) := dk_180 0 25 (dk_at dksX3_isMixed_0 4 rfl rfl)
theorem dX3_isMixed_7 : decode cX3_isMixed 7 = .ok (.invokevirtual 54, 3) := dk_182 0 54 (dk_at dksX3_isMixed_0 7 rfl rfl)
theorem dX3_isMixed_10 : decode cX3_isMixed 10 = .ok (.if_icmp .ge 79, 3) := dk_162 0 79 (dk_at dksX3_isMixed_0 10 rfl rfl)
theorem dX3_isMixed_13 : decode cX3_isMixed 13 = .ok (.iconst 0, 1) := dk_3 (dk_at dksX3_isMixed_0 13 rfl rfl)
theorem dX3_isMixed_14 : decode cX3_isMixed 14 = .ok (.istore_n 3, 1) := dk_62 (dk_at dksX3_isMixed_0 14 rfl rfl)
theorem dX3_isMixed_15 : decode cX3_isMixed 15 = .ok (.iload_n 3, 1) := dk_29 (dk_at dksX3_isMixed_0 15 rfl rfl)
theorem dX3_isMixed_16 : decode cX3_isMixed 16 = .ok (.aload_n 0, 1) := dk_42 (dk_at dksX3_isMixed_0 16 rfl rfl)
theorem dX3_isMixed_17 : decode cX3_isMixed 17 = .ok (.getfield 25, 3) := dk_180 0 25 (dk_at dksX3_isMixed_0 17 rfl rfl)
theorem dX3_isMixed_20 : decode cX3_isMixed 20 = .ok (.invokevirtual 54, 3) := dk_182 0 54 (dk_at dksX3_isMixed_0 20 rfl rfl)
theorem dX3_isMixed_23 : decode cX3_isMixed 23 = .ok (.if_icmp .ge 60, 3) := dk_162 0 60 (dk_at dksX3_isMixed_1 0 rfl rfl)
theorem dX3_isMixed_26 : decode cX3_isMixed 26 = .ok (.aload_n 0, 1) := dk_42 (dk_at dksX3_isMixed_1 3 rfl rfl)
theorem dX3_isMixed_27 : decode cX3_isMixed 27 = .ok (.getfield 25, 3) := dk_180 0 25 (dk_at dksX3_isMixed_1 4 rfl rfl)
theorem dX3_isMixed_30 : decode cX3_isMixed 30 = .ok (.iload_n 2, 1) := dk_28 (dk_at dksX3_isMixed_1 7 rfl rfl)
theorem dX3_isMixed_31 : decode cX3_isMixed 31 = .ok (.invokevirtual 50, 3) := dk_182 0 50 (dk_at dksX3_isMixed_1 8 rfl rfl)
theorem dX3_isMixed_34 : decode cX3_isMixed 34 = .ok (.checkcast 135, 3) := dk_192 0 135 (dk_at dksX3_isMixed_1 11 rfl rfl)
theorem dX3_isMixed_37 : decode cX3_isMixed 37 = .ok (.getfield 146, 3) := dk_180 0 146 (dk_at dksX3_isMixed_1 14 rfl rfl)
theorem dX3_isMixed_40 : decode cX3_isMixed 40 = .ok (.aload_n 0, 1) := dk_42 (dk_at dksX3_isMixed_1 17 rfl rfl)
theorem dX3_isMixed_41 : decode cX3_isMixed 41 = .ok (.getfield 25, 3) := dk_180 0 25 (dk_at dksX3_isMixed_1 18 rfl rfl)
theorem dX3_isMixed_44 : decode cX3_isMixed 44 = .ok (.iload_n 3, 1) := dk_29 (dk_at dksX3_isMixed_1 21 rfl rfl)
theorem dX3_isMixed_45 : decode cX3_isMixed 45 = .ok (.invokevirtual 50, 3) := dk_182 0 50 (dk_at dksX3_isMixed_2 0 rfl rfl)
theorem dX3_isMixed_48 : decode cX3_isMixed 48 = .ok (.checkcast 135, 3) := dk_192 0 135 (dk_at dksX3_isMixed_2 3 rfl rfl)
theorem dX3_isMixed_51 : decode cX3_isMixed 51 = .ok (.getfield 137, 3) := dk_180 0 137 (dk_at dksX3_isMixed_2 6 rfl rfl)
theorem dX3_isMixed_54 : decode cX3_isMixed 54 = .ok (.if_icmp .ge 23, 3) := dk_162 0 23 (dk_at dksX3_isMixed_2 9 rfl rfl)
theorem dX3_isMixed_57 : decode cX3_isMixed 57 = .ok (.aload_n 0, 1) := dk_42 (dk_at dksX3_isMixed_2 12 rfl rfl)
theorem dX3_isMixed_58 : decode cX3_isMixed 58 = .ok (.iload_n 1, 1) := dk_27 (dk_at dksX3_isMixed_2 13 rfl rfl)
theorem dX3_isMixed_59 : decode cX3_isMixed 59 = .ok (.iload_n 2, 1) := dk_28 (dk_at dksX3_isMixed_2 14 rfl rfl)
theorem dX3_isMixed_60 : decode cX3_isMixed 60 = .ok (.invokevirtual 149, 3) := dk_182 0 149 (dk_at dksX3_isMixed_2 15 rfl rfl)
theorem dX3_isMixed_63 : decode cX3_isMixed 63 = .ok (.ifCond .eq 14, 3) := dk_153 0 14 (dk_at dksX3_isMixed_2 18 rfl rfl)
theorem dX3_isMixed_66 : decode cX3_isMixed 66 = .ok (.aload_n 0, 1) := dk_42 (dk_at dksX3_isMixed_2 21 rfl rfl)
theorem dX3_isMixed_67 : decode cX3_isMixed 67 = .ok (.iload_n 1, 1) := dk_27 (dk_at dksX3_isMixed_2 22 rfl rfl)
theorem dX3_isMixed_68 : decode cX3_isMixed 68 = .ok (.iload_n 3, 1) := dk_29 (dk_at dksX3_isMixed_2 23 rfl rfl)
theorem dX3_isMixed_69 : decode cX3_isMixed 69 = .ok (.invokevirtual 149, 3) := dk_182 0 149 (dk_at dksX3_isMixed_3 0 rfl rfl)
theorem dX3_isMixed_72 : decode cX3_isMixed 72 = .ok (.ifCond .eq 5, 3) := dk_153 0 5 (dk_at dksX3_isMixed_3 3 rfl rfl)
theorem dX3_isMixed_75 : decode cX3_isMixed 75 = .ok (.iconst 1, 1) := dk_4 (dk_at dksX3_isMixed_3 6 rfl rfl)
theorem dX3_isMixed_76 : decode cX3_isMixed 76 = .ok (.ireturn, 1) := dk_172 (dk_at dksX3_isMixed_3 7 rfl rfl)
theorem dX3_isMixed_77 : decode cX3_isMixed 77 = .ok (.iinc 3 1, 3) := dk_132 3 1 (dk_at dksX3_isMixed_3 8 rfl rfl)
theorem dX3_isMixed_80 : decode cX3_isMixed 80 = .ok (.goto (-65), 3) := dk_167 255 191 (dk_at dksX3_isMixed_3 11 rfl rfl)
theorem dX3_isMixed_83 : decode cX3_isMixed 83 = .ok (.iinc 2 1, 3) := dk_132 2 1 (dk_at dksX3_isMixed_3 14 rfl rfl)
theorem dX3_isMixed_86 : decode cX3_isMixed 86 = .ok (.goto (-84), 3) := dk_167 255 172 (dk_at dksX3_isMixed_3 17 rfl rfl)
theorem dX3_isMixed_89 : decode cX3_isMixed 89 = .ok (.iconst 0, 1) := dk_3 (dk_at dksX3_isMixed_3 20 rfl rfl)
theorem dX3_isMixed_90 : decode cX3_isMixed 90 = .ok (.ireturn, 1) := dk_172 (dk_at dksX3_isMixed_3 21 rfl rfl)
theorem fdX3_146_10 : sd_Fd "SofaDig$Sofa" 146 10 1 := ⟨(RX11, TX11, 2), "SofaDig$Empire", rfl, by decide, rfl, in_X11, Or.inl rfl, Or.inr ⟨_, q1632⟩⟩
abbrev mX3_isMixed : sd_Y := (yX3_isMixed, cX3_isMixed, 4, some (.boolean), none)
def fX3_isMixed_b15 (G : sd_G) (k2 : Nat × Int32 × Int32 → sd_M Int32) (k15 : Nat × Int32 × Int32 × Int32 → sd_M Int32) (w0 : Nat) (w1 : Int32) (w2 : Int32) (w3 : Int32) : sd_M Int32 :=
  sd_bnd (sd_getR G 2 3 w0) fun v3 =>
  sd_bnd (sd_isC G 41 v3) fun _ =>
  sd_bnd (fJ2_size G v3) fun r4 =>
  if r4 ≤ w3 then (
    sd_bnd (sd_ret (w2 + 1)) fun x5 =>
    k2 (w0, w1, x5))
  else (
    sd_bnd (sd_getR G 2 3 w0) fun v6 =>
    sd_bnd (sd_isC G 41 v6) fun _ =>
    sd_bnd (fJ2_get G v6 w2) fun r7 =>
    sd_bnd (sd_cast G [10] r7) fun _ =>
    sd_bnd (sd_getI G 10 1 r7) fun v8 =>
    sd_bnd (sd_getR G 2 3 w0) fun v9 =>
    sd_bnd (sd_isC G 41 v9) fun _ =>
    sd_bnd (fJ2_get G v9 w3) fun r10 =>
    sd_bnd (sd_cast G [10] r10) fun _ =>
    sd_bnd (sd_getI G 10 0 r10) fun v11 =>
    if v11 ≤ v8 then (
      sd_bnd (sd_ret (w3 + 1)) fun x12 =>
      k15 (w0, w1, w2, x12))
    else (
      sd_bnd (sd_isC G 2 w0) fun _ =>
      sd_bnd (fX3_isSeenIn G w0 w1 w2) fun r13 =>
      if r13 = 0 then (
        sd_bnd (sd_ret (w3 + 1)) fun x14 =>
        k15 (w0, w1, w2, x14))
      else (
        sd_bnd (sd_isC G 2 w0) fun _ =>
        sd_bnd (fX3_isSeenIn G w0 w1 w3) fun r15 =>
        if r15 = 0 then (
          sd_bnd (sd_ret (w3 + 1)) fun x16 =>
          k15 (w0, w1, w2, x16))
        else (
          sd_ret 1))))
set_option maxHeartbeats 4000000 in
theorem sX3_isMixed_b15 (l : Launch) (G : sd_G) (a0 : Nat) (a1 : Int32) (ρ : Int32) (h2 : sd_H) (cT : Nat × Nat) (k2 : Nat × Int32 × Int32 → sd_M Int32) (Hk2 : ∀ (q : Nat × Int32 × Int32) (h : sd_H) (c : Nat × Nat), k2 q h = some (ρ, c, h2) → sd_J mX3_isMixed ((l, G), (4, 88), [.ref a0, .int a1], (sd_oI ρ, h2), cT) 2 [(0, .ref q.1), (1, .int q.2.1), (2, .int q.2.2)] [] h c) (k15 : Nat × Int32 × Int32 × Int32 → sd_M Int32) (Hk15 : ∀ (q : Nat × Int32 × Int32 × Int32) (h : sd_H) (c : Nat × Nat), k15 q h = some (ρ, c, h2) → sd_J mX3_isMixed ((l, G), (4, 88), [.ref a0, .int a1], (sd_oI ρ, h2), cT) 15 [(0, .ref q.1), (1, .int q.2.1), (2, .int q.2.2.1), (3, .int q.2.2.2)] [] h c) (w0 : Nat) (w1 : Int32) (w2 : Int32) (w3 : Int32) (h : sd_H) (c : Nat × Nat) (hf : fX3_isMixed_b15 G k2 k15 w0 w1 w2 w3 h = some (ρ, c, h2)) : sd_J mX3_isMixed ((l, G), (4, 88), [.ref a0, .int a1], (sd_oI ρ, h2), cT) 15 [(0, .ref w0), (1, .int w1), (2, .int w2), (3, .int w3)] [] h c := by
  unfold fX3_isMixed_b15 at hf
  refine sj_iload_n 3 dX3_isMixed_15 rfl ?_
  refine sj_aload_n 0 dX3_isMixed_16 rfl ?_
  refine sj_getR fdX3_25_2 hf dX3_isMixed_17 (fun v3 hf => ?_)
  obtain ⟨fs20, he20, hf⟩ := sd_isC_some hf
  refine sj_cI (rest := [.int w3]) (fun _ _ _ e => sj_runV (n := 0) (As := []) (rest := [.int w3]) (sJ2_size l G v3 h _ _ _ e) he20 rfl rfl rfl rfl q2129 q490 q491 q121 q492 (by decide +kernel) rfl rfl ⟨Nat.le_of_ble_eq_true rfl, Nat.le_of_ble_eq_true rfl⟩ rfl (Nat.le_of_ble_eq_true rfl) dX3_isMixed_20) hf (fun r4 h c hf => ?_)
  refine sj_icge 83 hf dX3_isMixed_23 (by decide) (fun g23 hf => ?_) (fun g23 hf => ?_)
  · refine sj_iincN 2 (fun x5 => [(2, .int x5), (0, .ref w0), (1, .int w1), (3, .int w3)]) 1 hf dX3_isMixed_83 rfl (by decide) (by decide) (fun _ => rfl) (fun x5 hf => ?_)
    refine sj_goto 2 dX3_isMixed_86 (by decide) ?_
    exact sj_loc [1, 2, 0] rfl (Hk2 (w0, w1, x5) _ _ hf)
  · refine sj_aload_n 0 dX3_isMixed_26 rfl ?_
    refine sj_getR fdX3_25_2 hf dX3_isMixed_27 (fun v6 hf => ?_)
    refine sj_iload_n 2 dX3_isMixed_30 rfl ?_
    obtain ⟨fs31, he31, hf⟩ := sd_isC_some hf
    refine sj_cR (rest := []) (fun _ _ _ e => sj_runV (n := 1) (As := [.int w2]) (rest := []) (sJ2_get l G v6 w2 h _ _ _ e) he31 rfl rfl rfl rfl q2158 q1002 q3425 q121 q1004 (by decide +kernel) rfl rfl ⟨Nat.le_of_ble_eq_true rfl, Nat.le_of_ble_eq_true rfl⟩ rfl (Nat.le_of_ble_eq_true rfl) dX3_isMixed_31) hf (fun r7 h c hf => ?_)
    obtain ⟨ci34, fs34, he34, hm34, hf⟩ := sd_cast_some hf
    refine sj_cast he34 hm34 fc_SofaDig_Empire q2302 dX3_isMixed_34 ?_
    refine sj_getI fdX3_146_10 hf dX3_isMixed_37 (fun v8 hf => ?_)
    refine sj_aload_n 0 dX3_isMixed_40 rfl ?_
    refine sj_getR fdX3_25_2 hf dX3_isMixed_41 (fun v9 hf => ?_)
    refine sj_iload_n 3 dX3_isMixed_44 rfl ?_
    obtain ⟨fs45, he45, hf⟩ := sd_isC_some hf
    refine sj_cR (rest := [.int v8]) (fun _ _ _ e => sj_runV (n := 1) (As := [.int w3]) (rest := [.int v8]) (sJ2_get l G v9 w3 h _ _ _ e) he45 rfl rfl rfl rfl q2158 q1002 q3425 q121 q1004 (by decide +kernel) rfl rfl ⟨Nat.le_of_ble_eq_true rfl, Nat.le_of_ble_eq_true rfl⟩ rfl (Nat.le_of_ble_eq_true rfl) dX3_isMixed_45) hf (fun r10 h c hf => ?_)
    obtain ⟨ci48, fs48, he48, hm48, hf⟩ := sd_cast_some hf
    refine sj_cast he48 hm48 fc_SofaDig_Empire q2302 dX3_isMixed_48 ?_
    refine sj_getI fdX3_137_10 hf dX3_isMixed_51 (fun v11 hf => ?_)
    refine sj_icge 77 hf dX3_isMixed_54 (by decide) (fun g54 hf => ?_) (fun g54 hf => ?_)
    · refine sj_iincN 3 (fun x12 => [(3, .int x12), (0, .ref w0), (1, .int w1), (2, .int w2)]) 1 hf dX3_isMixed_77 rfl (by decide) (by decide) (fun _ => rfl) (fun x12 hf => ?_)
      refine sj_goto 15 dX3_isMixed_80 (by decide) ?_
      exact sj_loc [1, 2, 3, 0] rfl (Hk15 (w0, w1, w2, x12) _ _ hf)
    · refine sj_aload_n 0 dX3_isMixed_57 rfl ?_
      refine sj_iload_n 1 dX3_isMixed_58 rfl ?_
      refine sj_iload_n 2 dX3_isMixed_59 rfl ?_
      obtain ⟨fs60, he60, hf⟩ := sd_isC_some hf
      refine sj_cI (rest := []) (fun _ _ _ e => sj_runV (n := 2) (As := [.int w1, .int w2]) (rest := []) (sX3_isSeenIn l G w0 w1 w2 h _ _ _ e) he60 rfl rfl rfl rfl q2308 q2309 q2310 q118 q2311 (by decide +kernel) rfl rfl ⟨Nat.le_of_ble_eq_true rfl, Nat.le_of_ble_eq_true rfl⟩ rfl (Nat.le_of_ble_eq_true rfl) dX3_isMixed_60) hf (fun r13 h c hf => ?_)
      refine sj_ifeq 77 hf dX3_isMixed_63 (by decide) (fun g63 hf => ?_) (fun g63 hf => ?_)
      · refine sj_iincN 3 (fun x14 => [(3, .int x14), (0, .ref w0), (1, .int w1), (2, .int w2)]) 1 hf dX3_isMixed_77 rfl (by decide) (by decide) (fun _ => rfl) (fun x14 hf => ?_)
        refine sj_goto 15 dX3_isMixed_80 (by decide) ?_
        exact sj_loc [1, 2, 3, 0] rfl (Hk15 (w0, w1, w2, x14) _ _ hf)
      · refine sj_aload_n 0 dX3_isMixed_66 rfl ?_
        refine sj_iload_n 1 dX3_isMixed_67 rfl ?_
        refine sj_iload_n 3 dX3_isMixed_68 rfl ?_
        obtain ⟨fs69, he69, hf⟩ := sd_isC_some hf
        refine sj_cI (rest := []) (fun _ _ _ e => sj_runV (n := 2) (As := [.int w1, .int w3]) (rest := []) (sX3_isSeenIn l G w0 w1 w3 h _ _ _ e) he69 rfl rfl rfl rfl q2308 q2309 q2310 q118 q2311 (by decide +kernel) rfl rfl ⟨Nat.le_of_ble_eq_true rfl, Nat.le_of_ble_eq_true rfl⟩ rfl (Nat.le_of_ble_eq_true rfl) dX3_isMixed_69) hf (fun r15 h c hf => ?_)
        refine sj_ifeq 77 hf dX3_isMixed_72 (by decide) (fun g72 hf => ?_) (fun g72 hf => ?_)
        · refine sj_iincN 3 (fun x16 => [(3, .int x16), (0, .ref w0), (1, .int w1), (2, .int w2)]) 1 hf dX3_isMixed_77 rfl (by decide) (by decide) (fun _ => rfl) (fun x16 hf => ?_)
          refine sj_goto 15 dX3_isMixed_80 (by decide) ?_
          exact sj_loc [1, 2, 3, 0] rfl (Hk15 (w0, w1, w2, x16) _ _ hf)
        · refine sj_iconst (v := 1) dX3_isMixed_75 (by decide) ?_
          exact sj_zretC (o := sd_oI) (ty := .boolean) rfl hf rfl rfl rfl dX3_isMixed_76
theorem sX3_isMixed_b15_loop (l : Launch) (G : sd_G) (a0 : Nat) (a1 : Int32) (ρ : Int32) (h2 : sd_H) (cT : Nat × Nat) (k2 : Nat × Int32 × Int32 → sd_M Int32) (Hk2 : ∀ (q : Nat × Int32 × Int32) (h : sd_H) (c : Nat × Nat), k2 q h = some (ρ, c, h2) → sd_J mX3_isMixed ((l, G), (4, 88), [.ref a0, .int a1], (sd_oI ρ, h2), cT) 2 [(0, .ref q.1), (1, .int q.2.1), (2, .int q.2.2)] [] h c) (n : Nat) : ∀ (q : Nat × Int32 × Int32 × Int32) (h : sd_H) (c : Nat × Nat), sd_loop (fun k s => fX3_isMixed_b15 G k2 k s.1 s.2.1 s.2.2.1 s.2.2.2) n q h = some (ρ, c, h2) → sd_J mX3_isMixed ((l, G), (4, 88), [.ref a0, .int a1], (sd_oI ρ, h2), cT) 15 [(0, .ref q.1), (1, .int q.2.1), (2, .int q.2.2.1), (3, .int q.2.2.2)] [] h c := by
  induction n with
  | zero => intro q h c hf; cases hf
  | succ n ih => intro q h c hf; exact sX3_isMixed_b15 l G a0 a1 ρ h2 cT k2 Hk2 _ ih _ _ _ _ _ _ hf
def fX3_isMixed_b2 (G : sd_G) (k2 : Nat × Int32 × Int32 → sd_M Int32) (w0 : Nat) (w1 : Int32) (w2 : Int32) : sd_M Int32 :=
  sd_bnd (sd_getR G 2 3 w0) fun v1 =>
  sd_bnd (sd_isC G 41 v1) fun _ =>
  sd_bnd (fJ2_size G v1) fun r2 =>
  if r2 ≤ w2 then (
    sd_ret 0)
  else (
    sd_loop (fun k s => fX3_isMixed_b15 G k2 k s.1 s.2.1 s.2.2.1 s.2.2.2) sd_FU (w0, w1, w2, 0))
set_option maxHeartbeats 4000000 in
theorem sX3_isMixed_b2 (l : Launch) (G : sd_G) (a0 : Nat) (a1 : Int32) (ρ : Int32) (h2 : sd_H) (cT : Nat × Nat) (k2 : Nat × Int32 × Int32 → sd_M Int32) (Hk2 : ∀ (q : Nat × Int32 × Int32) (h : sd_H) (c : Nat × Nat), k2 q h = some (ρ, c, h2) → sd_J mX3_isMixed ((l, G), (4, 88), [.ref a0, .int a1], (sd_oI ρ, h2), cT) 2 [(0, .ref q.1), (1, .int q.2.1), (2, .int q.2.2)] [] h c) (w0 : Nat) (w1 : Int32) (w2 : Int32) (h : sd_H) (c : Nat × Nat) (hf : fX3_isMixed_b2 G k2 w0 w1 w2 h = some (ρ, c, h2)) : sd_J mX3_isMixed ((l, G), (4, 88), [.ref a0, .int a1], (sd_oI ρ, h2), cT) 2 [(0, .ref w0), (1, .int w1), (2, .int w2)] [] h c := by
  unfold fX3_isMixed_b2 at hf
  refine sj_iload_n 2 dX3_isMixed_2 rfl ?_
  refine sj_aload_n 0 dX3_isMixed_3 rfl ?_
  refine sj_getR fdX3_25_2 hf dX3_isMixed_4 (fun v1 hf => ?_)
  obtain ⟨fs7, he7, hf⟩ := sd_isC_some hf
  refine sj_cI (rest := [.int w2]) (fun _ _ _ e => sj_runV (n := 0) (As := []) (rest := [.int w2]) (sJ2_size l G v1 h _ _ _ e) he7 rfl rfl rfl rfl q2129 q490 q491 q121 q492 (by decide +kernel) rfl rfl ⟨Nat.le_of_ble_eq_true rfl, Nat.le_of_ble_eq_true rfl⟩ rfl (Nat.le_of_ble_eq_true rfl) dX3_isMixed_7) hf (fun r2 h c hf => ?_)
  refine sj_icge 89 hf dX3_isMixed_10 (by decide) (fun g10 hf => ?_) (fun g10 hf => ?_)
  · refine sj_iconst (v := 0) dX3_isMixed_89 (by decide) ?_
    exact sj_zretC (o := sd_oI) (ty := .boolean) rfl hf rfl rfl rfl dX3_isMixed_90
  · refine sj_iconst (v := 0) dX3_isMixed_13 (by decide) ?_
    refine sj_istore_n [(3, .int 0), (0, .ref w0), (1, .int w1), (2, .int w2)] dX3_isMixed_14 (by decide) rfl ?_
    exact sj_loc [1, 2, 3, 0] rfl (sX3_isMixed_b15_loop l G a0 a1 ρ h2 cT k2 Hk2 sd_FU (w0, w1, w2, 0) _ _ hf)
theorem sX3_isMixed_b2_loop (l : Launch) (G : sd_G) (a0 : Nat) (a1 : Int32) (ρ : Int32) (h2 : sd_H) (cT : Nat × Nat) (n : Nat) : ∀ (q : Nat × Int32 × Int32) (h : sd_H) (c : Nat × Nat), sd_loop (fun k s => fX3_isMixed_b2 G k s.1 s.2.1 s.2.2) n q h = some (ρ, c, h2) → sd_J mX3_isMixed ((l, G), (4, 88), [.ref a0, .int a1], (sd_oI ρ, h2), cT) 2 [(0, .ref q.1), (1, .int q.2.1), (2, .int q.2.2)] [] h c := by
  induction n with
  | zero => intro q h c hf; cases hf
  | succ n ih => intro q h c hf; exact sX3_isMixed_b2 l G a0 a1 ρ h2 cT _ ih _ _ _ _ _ hf
def fX3_isMixed (G : sd_G) (a0 : Nat) (a1 : Int32) : sd_M Int32 :=
  sd_loop (fun k s => fX3_isMixed_b2 G k s.1 s.2.1 s.2.2) sd_FU (a0, a1, 0)
set_option maxHeartbeats 4000000 in
theorem sX3_isMixed (l : Launch) (G : sd_G) (a0 : Nat) (a1 : Int32) (h : sd_H) (ρ : Int32) (cT : Nat × Nat) (h2 : sd_H) (hf : fX3_isMixed G a0 a1 h = some (ρ, cT, h2)) : sd_Met mX3_isMixed ((l, G), (4, 88), [.ref a0, .int a1], (sd_oI ρ, h2), cT) h := by
  refine sd_entry (plainFor_of_name rfl) rfl (Nat.le_of_ble_eq_true rfl) ?_
  show sd_J mX3_isMixed ((l, G), (4, 88), [.ref a0, .int a1], (sd_oI ρ, h2), cT) 0 [(0, .ref a0), (1, .int a1)] [] h cT
  unfold fX3_isMixed at hf
  refine sj_iconst (v := 0) dX3_isMixed_0 (by decide) ?_
  refine sj_istore_n [(2, .int 0), (0, .ref a0), (1, .int a1)] dX3_isMixed_1 (by decide) rfl ?_
  exact sj_loc [1, 2, 0] rfl (sX3_isMixed_b2_loop l G a0 a1 ρ h2 cT sd_FU (a0, a1, 0) _ _ hf)
/-! SofaDig$Tape.put(I)V -/
abbrev cX2_put : ByteArray := prog_33_method_2_code
def yX2_put : MethodName := ⟨RX2, "put", "(I)V"⟩
def dkwX2_put_1 : List UInt8 := [180, 0, 15, 4, 96, 181, 0, 15, 132, 2, 248, 167, 255, 226, 177]
abbrev dktX2_put_1 : List UInt8 := dkwX2_put_1 ++ []
def dkwX2_put_0 : List UInt8 := [16, 24, 61, 28, 155, 0, 32, 42, 180, 0, 9, 42, 180, 0, 15, 27, 28, 122, 145, 84, 42, 89]
abbrev dktX2_put_0 : List UInt8 := dkwX2_put_0 ++ dktX2_put_1
theorem dksX2_put_0 : cX2_put.data.toList.drop 0 = dktX2_put_0 := by decide +kernel
theorem dksX2_put_1 : cX2_put.data.toList.drop 22 = dktX2_put_1 := dk_seg dksX2_put_0 22 rfl rfl
theorem dX2_put_0 : decode cX2_put 0 = .ok (.bipush 24, 2) := dk_16 24 (dk_at dksX2_put_0 0 rfl rfl)
theorem dX2_put_2 : decode cX2_put 2 = .ok (.istore_n 2, 1) := dk_61 (dk_at dksX2_put_0 2 rfl rfl)
theorem dX2_put_3 : decode cX2_put 3 = .ok (.iload_n 2, 1) := dk_28 (dk_at dksX2_put_0 3 rfl rfl)
theorem dX2_put_4 : decode cX2_put 4 = .ok (.ifCond .lt 32, 3) := dk_155 0 32 (dk_at dksX2_put_0 4 rfl rfl)
theorem dX2_put_7 : decode cX2_put 7 = .ok (.aload_n 0, 1) := dk_42 (dk_at dksX2_put_0 7 rfl rfl)
theorem dX2_put_8 : decode cX2_put 8 = .ok (.getfield 9, 3) := dk_180 0 9 (dk_at dksX2_put_0 8 rfl rfl)
theorem dX2_put_11 : decode cX2_put 11 = .ok (.aload_n 0, 1) := dk_42 (dk_at dksX2_put_0 11 rfl rfl)
theorem dX2_put_12 : decode cX2_put 12 = .ok (.getfield 15, 3) := dk_180 0 15 (dk_at dksX2_put_0 12 rfl rfl)
theorem dX2_put_15 : decode cX2_put 15 = .ok (.iload_n 1, 1) := dk_27 (dk_at dksX2_put_0 15 rfl rfl)
theorem dX2_put_16 : decode cX2_put 16 = .ok (.iload_n 2, 1) := dk_28 (dk_at dksX2_put_0 16 rfl rfl)
theorem dX2_put_17 : decode cX2_put 17 = .ok (.ishr, 1) := dk_122 (dk_at dksX2_put_0 17 rfl rfl)
theorem dX2_put_18 : decode cX2_put 18 = .ok (.i2b, 1) := dk_145 (dk_at dksX2_put_0 18 rfl rfl)
theorem dX2_put_19 : decode cX2_put 19 = .ok (.bastore, 1) := dk_84 (dk_at dksX2_put_0 19 rfl rfl)
theorem dX2_put_20 : decode cX2_put 20 = .ok (.aload_n 0, 1) := dk_42 (dk_at dksX2_put_0 20 rfl rfl)
theorem dX2_put_21 : decode cX2_put 21 = .ok (.dup, 1) := dk_89 (dk_at dksX2_put_0 21 rfl rfl)
theorem dX2_put_22 : decode cX2_put 22 = .ok (.getfield 15, 3) := dk_180 0 15 (dk_at dksX2_put_1 0 rfl rfl)
theorem dX2_put_25 : decode cX2_put 25 = .ok (.iconst 1, 1) := dk_4 (dk_at dksX2_put_1 3 rfl rfl)
theorem dX2_put_26 : decode cX2_put 26 = .ok (.iadd, 1) := dk_96 (dk_at dksX2_put_1 4 rfl rfl)
theorem dX2_put_27 : decode cX2_put 27 = .ok (.putfield 15, 3) := dk_181 0 15 (dk_at dksX2_put_1 5 rfl rfl)
theorem dX2_put_30 : decode cX2_put 30 = .ok (.iinc 2 (-8), 3) := dk_132 2 248 (dk_at dksX2_put_1 8 rfl rfl)
theorem dX2_put_33 : decode cX2_put 33 = .ok (.goto (-30), 3) := dk_167 255 226 (dk_at dksX2_put_1 11 rfl rfl)
theorem dX2_put_36 : decode cX2_put 36 = .ok (.return_, 1) := dk_177 (dk_at dksX2_put_1 14 rfl rfl)
theorem fpX2_15_1 (n d : String) : sd_Fp ⟨"SofaDig$Tape", n, d⟩ 15 1 1 .int := ⟨(RX2, TX2, 2), "SofaDig$Tape", tyX2, rfl, by decide, rfl, in_X2, Or.inl rfl, tyX2_ok, nmX2, rfl, Or.inl ⟨rfl, Or.inl q197⟩⟩
abbrev mX2_put : sd_Y := (yX2_put, cX2_put, 3, none, none)
def fX2_put_b3 (G : sd_G) (k3 : Nat × Int32 × Int32 → sd_M Unit) (w0 : Nat) (w1 : Int32) (w2 : Int32) : sd_M Unit :=
  if w2 < 0 then (
    sd_ret ())
  else (
    sd_bnd (sd_getR G 1 0 w0) fun v1 =>
    sd_bnd (sd_getI G 1 1 w0) fun v2 =>
    sd_bnd (sd_astI 2 v1 v2 ((w1 >>> (w2 &&& 31)).toInt8.toInt32)) fun _ =>
    sd_bnd (sd_getI G 1 1 w0) fun v3 =>
    sd_bnd (sd_put 1 1 .int w0 (.int (v3 + 1))) fun _ =>
    sd_bnd (sd_ret (w2 + (-8))) fun x4 =>
    k3 (w0, w1, x4))
set_option maxHeartbeats 4000000 in
theorem sX2_put_b3 (l : Launch) (G : sd_G) (a0 : Nat) (a1 : Int32) (ρ : Unit) (h2 : sd_H) (cT : Nat × Nat) (k3 : Nat × Int32 × Int32 → sd_M Unit) (Hk3 : ∀ (q : Nat × Int32 × Int32) (h : sd_H) (c : Nat × Nat), k3 q h = some (ρ, c, h2) → sd_J mX2_put ((l, G), (0, 0), [.ref a0, .int a1], (sd_oV ρ, h2), cT) 3 [(0, .ref q.1), (1, .int q.2.1), (2, .int q.2.2)] [] h c) (w0 : Nat) (w1 : Int32) (w2 : Int32) (h : sd_H) (c : Nat × Nat) (hf : fX2_put_b3 G k3 w0 w1 w2 h = some (ρ, c, h2)) : sd_J mX2_put ((l, G), (0, 0), [.ref a0, .int a1], (sd_oV ρ, h2), cT) 3 [(0, .ref w0), (1, .int w1), (2, .int w2)] [] h c := by
  unfold fX2_put_b3 at hf
  refine sj_iload_n 2 dX2_put_3 rfl ?_
  refine sj_iflt 36 hf dX2_put_4 (by decide) (fun g4 hf => ?_) (fun g4 hf => ?_)
  · exact sj_vret (o := sd_oV) hf rfl rfl rfl dX2_put_36
  · refine sj_aload_n 0 dX2_put_7 rfl ?_
    refine sj_getR fdX2_9_1 hf dX2_put_8 (fun v1 hf => ?_)
    refine sj_aload_n 0 dX2_put_11 rfl ?_
    refine sj_getI fdX2_15_1 hf dX2_put_12 (fun v2 hf => ?_)
    refine sj_iload_n 1 dX2_put_15 rfl ?_
    refine sj_iload_n 2 dX2_put_16 rfl ?_
    refine sj_ishr dX2_put_17 ?_
    refine sj_i2b dX2_put_18 ?_
    refine sj_bast hf dX2_put_19 (fun h hf => ?_)
    refine sj_aload_n 0 dX2_put_20 rfl ?_
    refine sj_dup dX2_put_21 rfl ?_
    refine sj_getI fdX2_15_1 hf dX2_put_22 (fun v3 hf => ?_)
    refine sj_iconst (v := 1) dX2_put_25 (by decide) ?_
    refine sj_iadd dX2_put_26 ?_
    refine sj_put (fpX2_15_1 _ _) hf dX2_put_27 (fun h hf => ?_)
    refine sj_iincN 2 (fun x4 => [(2, .int x4), (0, .ref w0), (1, .int w1)]) (-8) hf dX2_put_30 rfl (by decide) (by decide) (fun _ => rfl) (fun x4 hf => ?_)
    refine sj_goto 3 dX2_put_33 (by decide) ?_
    exact sj_loc [1, 2, 0] rfl (Hk3 (w0, w1, x4) _ _ hf)
theorem sX2_put_b3_loop (l : Launch) (G : sd_G) (a0 : Nat) (a1 : Int32) (ρ : Unit) (h2 : sd_H) (cT : Nat × Nat) (n : Nat) : ∀ (q : Nat × Int32 × Int32) (h : sd_H) (c : Nat × Nat), sd_loop (fun k s => fX2_put_b3 G k s.1 s.2.1 s.2.2) n q h = some (ρ, c, h2) → sd_J mX2_put ((l, G), (0, 0), [.ref a0, .int a1], (sd_oV ρ, h2), cT) 3 [(0, .ref q.1), (1, .int q.2.1), (2, .int q.2.2)] [] h c := by
  induction n with
  | zero => intro q h c hf; cases hf
  | succ n ih => intro q h c hf; exact sX2_put_b3 l G a0 a1 ρ h2 cT _ ih _ _ _ _ _ hf
def fX2_put (G : sd_G) (a0 : Nat) (a1 : Int32) : sd_M Unit :=
  sd_loop (fun k s => fX2_put_b3 G k s.1 s.2.1 s.2.2) sd_FU (a0, a1, 24)
set_option maxHeartbeats 4000000 in
theorem sX2_put (l : Launch) (G : sd_G) (a0 : Nat) (a1 : Int32) (h : sd_H) (ρ : Unit) (cT : Nat × Nat) (h2 : sd_H) (hf : fX2_put G a0 a1 h = some (ρ, cT, h2)) : sd_Met mX2_put ((l, G), (0, 0), [.ref a0, .int a1], (sd_oV ρ, h2), cT) h := by
  refine sd_entry (plainFor_of_name rfl) rfl (Nat.le_of_ble_eq_true rfl) ?_
  show sd_J mX2_put ((l, G), (0, 0), [.ref a0, .int a1], (sd_oV ρ, h2), cT) 0 [(0, .ref a0), (1, .int a1)] [] h cT
  unfold fX2_put at hf
  refine sj_bipush (v := 24) dX2_put_0 (by decide) ?_
  refine sj_istore_n [(2, .int 24), (0, .ref a0), (1, .int a1)] dX2_put_2 (by decide) rfl ?_
  exact sj_loc [1, 2, 0] rfl (sX2_put_b3_loop l G a0 a1 ρ h2 cT sd_FU (a0, a1, 24) _ _ hf)
/-! SofaDig$Sofa.above(I)I -/
abbrev cX3_above : ByteArray := prog_29_method_17_code
def yX3_above : MethodName := ⟨RX3, "above", "(I)I"⟩
def dkwX3_above_3 : List UInt8 := [167, 255, 218, 167, 255, 193, 2, 172]
abbrev dktX3_above_3 : List UInt8 := dkwX3_above_3 ++ []
def dkwX3_above_2 : List UInt8 := [192, 0, 41, 180, 0, 91, 27, 160, 0, 13, 45, 182, 0, 54, 4, 100, 21, 4, 100, 172, 132, 4, 1]
abbrev dktX3_above_2 : List UInt8 := dkwX3_above_2 ++ dktX3_above_3
def dkwX3_above_1 : List UInt8 := [192, 0, 18, 78, 3, 54, 4, 21, 4, 45, 182, 0, 54, 162, 0, 35, 45, 21, 4, 182, 0, 50]
abbrev dktX3_above_1 : List UInt8 := dkwX3_above_1 ++ dktX3_above_2
def dkwX3_above_0 : List UInt8 := [42, 180, 0, 21, 182, 0, 110, 77, 44, 185, 0, 114, 1, 0, 153, 0, 60, 44, 185, 0, 120, 1, 0]
abbrev dktX3_above_0 : List UInt8 := dkwX3_above_0 ++ dktX3_above_1
theorem dksX3_above_0 : cX3_above.data.toList.drop 0 = dktX3_above_0 := by decide +kernel
theorem dksX3_above_1 : cX3_above.data.toList.drop 23 = dktX3_above_1 := dk_seg dksX3_above_0 23 rfl rfl
theorem dksX3_above_2 : cX3_above.data.toList.drop 45 = dktX3_above_2 := dk_seg dksX3_above_1 22 rfl rfl
theorem dksX3_above_3 : cX3_above.data.toList.drop 68 = dktX3_above_3 := dk_seg dksX3_above_2 23 rfl rfl
theorem dX3_above_0 : decode cX3_above 0 = .ok (.aload_n 0, 1) := dk_42 (dk_at dksX3_above_0 0 rfl rfl)
theorem dX3_above_1 : decode cX3_above 1 = .ok (.getfield 21, 3) := dk_180 0 21 (dk_at dksX3_above_0 1 rfl rfl)
theorem dX3_above_4 : decode cX3_above 4 = .ok (.invokevirtual 110, 3) := dk_182 0 110 (dk_at dksX3_above_0 4 rfl rfl)
theorem dX3_above_7 : decode cX3_above 7 = .ok (.astore_n 2, 1) := dk_77 (dk_at dksX3_above_0 7 rfl rfl)
theorem dX3_above_8 : decode cX3_above 8 = .ok (.aload_n 2, 1) := dk_44 (dk_at dksX3_above_0 8 rfl rfl)
theorem dX3_above_9 : decode cX3_above 9 = .ok (.invokeinterface 114 1, 5) := by decide +kernel
theorem dX3_above_14 : decode cX3_above 14 = .ok (.ifCond .eq 60, 3) := dk_153 0 60 (dk_at dksX3_above_0 14 rfl rfl)
theorem dX3_above_17 : decode cX3_above 17 = .ok (.aload_n 2, 1) := dk_44 (dk_at dksX3_above_0 17 rfl rfl)
theorem dX3_above_18 : decode cX3_above 18 = .ok (.invokeinterface 120 1, 5) := by decide +kernel
theorem dX3_above_23 : decode cX3_above 23 = .ok (.checkcast 18, 3) := dk_192 0 18 (dk_at dksX3_above_1 0 rfl rfl)
theorem dX3_above_26 : decode cX3_above 26 = .ok (.astore_n 3, 1) := dk_78 (dk_at dksX3_above_1 3 rfl rfl)
theorem dX3_above_27 : decode cX3_above 27 = .ok (.iconst 0, 1) := dk_3 (dk_at dksX3_above_1 4 rfl rfl)
theorem dX3_above_28 : decode cX3_above 28 = .ok (.istore 4, 2) := dk_54 4 (dk_at dksX3_above_1 5 rfl rfl)
theorem dX3_above_30 : decode cX3_above 30 = .ok (.iload 4, 2) := dk_21 4 (dk_at dksX3_above_1 7 rfl rfl)
theorem dX3_above_32 : decode cX3_above 32 = .ok (.aload_n 3, 1) := dk_45 (dk_at dksX3_above_1 9 rfl rfl)
theorem dX3_above_33 : decode cX3_above 33 = .ok (.invokevirtual 54, 3) := dk_182 0 54 (dk_at dksX3_above_1 10 rfl rfl)
theorem dX3_above_36 : decode cX3_above 36 = .ok (.if_icmp .ge 35, 3) := dk_162 0 35 (dk_at dksX3_above_1 13 rfl rfl)
theorem dX3_above_39 : decode cX3_above 39 = .ok (.aload_n 3, 1) := dk_45 (dk_at dksX3_above_1 16 rfl rfl)
theorem dX3_above_40 : decode cX3_above 40 = .ok (.iload 4, 2) := dk_21 4 (dk_at dksX3_above_1 17 rfl rfl)
theorem dX3_above_42 : decode cX3_above 42 = .ok (.invokevirtual 50, 3) := dk_182 0 50 (dk_at dksX3_above_1 19 rfl rfl)
theorem dX3_above_45 : decode cX3_above 45 = .ok (.checkcast 41, 3) := dk_192 0 41 (dk_at dksX3_above_2 0 rfl rfl)
theorem dX3_above_48 : decode cX3_above 48 = .ok (.getfield 91, 3) := dk_180 0 91 (dk_at dksX3_above_2 3 rfl rfl)
theorem dX3_above_51 : decode cX3_above 51 = .ok (.iload_n 1, 1) := dk_27 (dk_at dksX3_above_2 6 rfl rfl)
theorem dX3_above_52 : decode cX3_above 52 = .ok (.if_icmp .ne 13, 3) := dk_160 0 13 (dk_at dksX3_above_2 7 rfl rfl)
theorem dX3_above_55 : decode cX3_above 55 = .ok (.aload_n 3, 1) := dk_45 (dk_at dksX3_above_2 10 rfl rfl)
theorem dX3_above_56 : decode cX3_above 56 = .ok (.invokevirtual 54, 3) := dk_182 0 54 (dk_at dksX3_above_2 11 rfl rfl)
theorem dX3_above_59 : decode cX3_above 59 = .ok (.iconst 1, 1) := dk_4 (dk_at dksX3_above_2 14 rfl rfl)
theorem dX3_above_60 : decode cX3_above 60 = .ok (.isub, 1) := dk_100 (dk_at dksX3_above_2 15 rfl rfl)
theorem dX3_above_61 : decode cX3_above 61 = .ok (.iload 4, 2) := dk_21 4 (dk_at dksX3_above_2 16 rfl rfl)
theorem dX3_above_63 : decode cX3_above 63 = .ok (.isub, 1) := dk_100 (dk_at dksX3_above_2 18 rfl rfl)
theorem dX3_above_64 : decode cX3_above 64 = .ok (.ireturn, 1) := dk_172 (dk_at dksX3_above_2 19 rfl rfl)
theorem dX3_above_65 : decode cX3_above 65 = .ok (.iinc 4 1, 3) := dk_132 4 1 (dk_at dksX3_above_2 20 rfl rfl)
theorem dX3_above_68 : decode cX3_above 68 = .ok (.goto (-38), 3) := dk_167 255 218 (dk_at dksX3_above_3 0 rfl rfl)
theorem dX3_above_71 : decode cX3_above 71 = .ok (.goto (-63), 3) := dk_167 255 193 (dk_at dksX3_above_3 3 rfl rfl)
theorem dX3_above_74 : decode cX3_above 74 = .ok (.iconst (-1), 1) := dk_2 (dk_at dksX3_above_3 6 rfl rfl)
theorem dX3_above_75 : decode cX3_above 75 = .ok (.ireturn, 1) := dk_172 (dk_at dksX3_above_3 7 rfl rfl)
abbrev mX3_above : sd_Y := (yX3_above, cX3_above, 5, some (.int), none)
def fX3_above_b30 (G : sd_G) (k8 : Int32 × Nat → sd_M Int32) (k30 : Int32 × Nat × Nat × Int32 → sd_M Int32) (w1 : Int32) (w2 : Nat) (w3 : Nat) (w4 : Int32) : sd_M Int32 :=
  sd_bnd (sd_isC G 41 w3) fun _ =>
  sd_bnd (fJ2_size G w3) fun r5 =>
  if r5 ≤ w4 then (
    k8 (w1, w2))
  else (
    sd_bnd (sd_isC G 41 w3) fun _ =>
    sd_bnd (fJ2_get G w3 w4) fun r6 =>
    sd_bnd (sd_cast G [3] r6) fun _ =>
    sd_bnd (sd_getI G 3 1 r6) fun v7 =>
    if v7 = w1 then (
      sd_bnd (sd_isC G 41 w3) fun _ =>
      sd_bnd (fJ2_size G w3) fun r9 =>
      sd_ret ((r9 - 1) - w4))
    else (
      sd_bnd (sd_ret (w4 + 1)) fun x8 =>
      k30 (w1, w2, w3, x8)))
set_option maxHeartbeats 4000000 in
theorem sX3_above_b30 (l : Launch) (G : sd_G) (a0 : Nat) (a1 : Int32) (ρ : Int32) (h2 : sd_H) (cT : Nat × Nat) (k8 : Int32 × Nat → sd_M Int32) (Hk8 : ∀ (q : Int32 × Nat) (h : sd_H) (c : Nat × Nat), k8 q h = some (ρ, c, h2) → sd_J mX3_above ((l, G), (3, 64), [.ref a0, .int a1], (sd_oI ρ, h2), cT) 8 [(1, .int q.1), (2, .ref q.2)] [] h c) (k30 : Int32 × Nat × Nat × Int32 → sd_M Int32) (Hk30 : ∀ (q : Int32 × Nat × Nat × Int32) (h : sd_H) (c : Nat × Nat), k30 q h = some (ρ, c, h2) → sd_J mX3_above ((l, G), (3, 64), [.ref a0, .int a1], (sd_oI ρ, h2), cT) 30 [(1, .int q.1), (2, .ref q.2.1), (3, .ref q.2.2.1), (4, .int q.2.2.2)] [] h c) (w1 : Int32) (w2 : Nat) (w3 : Nat) (w4 : Int32) (h : sd_H) (c : Nat × Nat) (hf : fX3_above_b30 G k8 k30 w1 w2 w3 w4 h = some (ρ, c, h2)) : sd_J mX3_above ((l, G), (3, 64), [.ref a0, .int a1], (sd_oI ρ, h2), cT) 30 [(1, .int w1), (2, .ref w2), (3, .ref w3), (4, .int w4)] [] h c := by
  unfold fX3_above_b30 at hf
  refine sj_iload 3 dX3_above_30 rfl ?_
  refine sj_aload_n 2 dX3_above_32 rfl ?_
  obtain ⟨fs33, he33, hf⟩ := sd_isC_some hf
  refine sj_cI (rest := [.int w4]) (fun _ _ _ e => sj_runV (n := 0) (As := []) (rest := [.int w4]) (sJ2_size l G w3 h _ _ _ e) he33 rfl rfl rfl rfl q2129 q490 q491 q121 q492 (by decide +kernel) rfl rfl ⟨Nat.le_of_ble_eq_true rfl, Nat.le_of_ble_eq_true rfl⟩ rfl (Nat.le_of_ble_eq_true rfl) dX3_above_33) hf (fun r5 h c hf => ?_)
  refine sj_icge 71 hf dX3_above_36 (by decide) (fun g36 hf => ?_) (fun g36 hf => ?_)
  · refine sj_goto 8 dX3_above_71 (by decide) ?_
    exact sj_loc [0, 1] rfl (Hk8 (w1, w2) _ _ hf)
  · refine sj_aload_n 2 dX3_above_39 rfl ?_
    refine sj_iload 3 dX3_above_40 rfl ?_
    obtain ⟨fs42, he42, hf⟩ := sd_isC_some hf
    refine sj_cR (rest := []) (fun _ _ _ e => sj_runV (n := 1) (As := [.int w4]) (rest := []) (sJ2_get l G w3 w4 h _ _ _ e) he42 rfl rfl rfl rfl q2158 q1002 q3425 q121 q1004 (by decide +kernel) rfl rfl ⟨Nat.le_of_ble_eq_true rfl, Nat.le_of_ble_eq_true rfl⟩ rfl (Nat.le_of_ble_eq_true rfl) dX3_above_42) hf (fun r6 h c hf => ?_)
    obtain ⟨ci45, fs45, he45, hm45, hf⟩ := sd_cast_some hf
    refine sj_cast he45 hm45 fc_SofaDig_Cushion q309 dX3_above_45 ?_
    refine sj_getI fdX3_91_3 hf dX3_above_48 (fun v7 hf => ?_)
    refine sj_iload_n 0 dX3_above_51 rfl ?_
    refine sj_icne 65 hf dX3_above_52 (by decide) (fun g52 hf => ?_) (fun g52 hf => ?_)
    · refine sj_iincN 3 (fun x8 => [(4, .int x8), (1, .int w1), (2, .ref w2), (3, .ref w3)]) 1 hf dX3_above_65 rfl (by decide) (by decide) (fun _ => rfl) (fun x8 hf => ?_)
      refine sj_goto 30 dX3_above_68 (by decide) ?_
      exact sj_loc [1, 2, 3, 0] rfl (Hk30 (w1, w2, w3, x8) _ _ hf)
    · refine sj_aload_n 2 dX3_above_55 rfl ?_
      obtain ⟨fs56, he56, hf⟩ := sd_isC_some hf
      refine sj_cI (rest := []) (fun _ _ _ e => sj_runV (n := 0) (As := []) (rest := []) (sJ2_size l G w3 h _ _ _ e) he56 rfl rfl rfl rfl q2129 q490 q491 q121 q492 (by decide +kernel) rfl rfl ⟨Nat.le_of_ble_eq_true rfl, Nat.le_of_ble_eq_true rfl⟩ rfl (Nat.le_of_ble_eq_true rfl) dX3_above_56) hf (fun r9 h c hf => ?_)
      refine sj_iconst (v := 1) dX3_above_59 (by decide) ?_
      refine sj_isub dX3_above_60 ?_
      refine sj_iload 3 dX3_above_61 rfl ?_
      refine sj_isub dX3_above_63 ?_
      exact sj_iret (o := sd_oI) hf rfl rfl rfl dX3_above_64
theorem sX3_above_b30_loop (l : Launch) (G : sd_G) (a0 : Nat) (a1 : Int32) (ρ : Int32) (h2 : sd_H) (cT : Nat × Nat) (k8 : Int32 × Nat → sd_M Int32) (Hk8 : ∀ (q : Int32 × Nat) (h : sd_H) (c : Nat × Nat), k8 q h = some (ρ, c, h2) → sd_J mX3_above ((l, G), (3, 64), [.ref a0, .int a1], (sd_oI ρ, h2), cT) 8 [(1, .int q.1), (2, .ref q.2)] [] h c) (n : Nat) : ∀ (q : Int32 × Nat × Nat × Int32) (h : sd_H) (c : Nat × Nat), sd_loop (fun k s => fX3_above_b30 G k8 k s.1 s.2.1 s.2.2.1 s.2.2.2) n q h = some (ρ, c, h2) → sd_J mX3_above ((l, G), (3, 64), [.ref a0, .int a1], (sd_oI ρ, h2), cT) 30 [(1, .int q.1), (2, .ref q.2.1), (3, .ref q.2.2.1), (4, .int q.2.2.2)] [] h c := by
  induction n with
  | zero => intro q h c hf; cases hf
  | succ n ih => intro q h c hf; exact sX3_above_b30 l G a0 a1 ρ h2 cT k8 Hk8 _ ih _ _ _ _ _ _ hf
def fX3_above_b8 (G : sd_G) (k8 : Int32 × Nat → sd_M Int32) (w1 : Int32) (w2 : Nat) : sd_M Int32 :=
  sd_bnd (sd_isC G 42 w2) fun _ =>
  sd_bnd (fJ31_hasNext G w2) fun r3 =>
  if r3 = 0 then (
    sd_ret (-1))
  else (
    sd_bnd (sd_isC G 42 w2) fun _ =>
    sd_bnd (fJ31_next G w2) fun r4 =>
    sd_bnd (sd_cast G [41] r4) fun _ =>
    sd_loop (fun k s => fX3_above_b30 G k8 k s.1 s.2.1 s.2.2.1 s.2.2.2) sd_FU (w1, w2, r4, 0))
set_option maxHeartbeats 4000000 in
theorem sX3_above_b8 (l : Launch) (G : sd_G) (a0 : Nat) (a1 : Int32) (ρ : Int32) (h2 : sd_H) (cT : Nat × Nat) (k8 : Int32 × Nat → sd_M Int32) (Hk8 : ∀ (q : Int32 × Nat) (h : sd_H) (c : Nat × Nat), k8 q h = some (ρ, c, h2) → sd_J mX3_above ((l, G), (3, 64), [.ref a0, .int a1], (sd_oI ρ, h2), cT) 8 [(1, .int q.1), (2, .ref q.2)] [] h c) (w1 : Int32) (w2 : Nat) (h : sd_H) (c : Nat × Nat) (hf : fX3_above_b8 G k8 w1 w2 h = some (ρ, c, h2)) : sd_J mX3_above ((l, G), (3, 64), [.ref a0, .int a1], (sd_oI ρ, h2), cT) 8 [(1, .int w1), (2, .ref w2)] [] h c := by
  unfold fX3_above_b8 at hf
  refine sj_aload_n 1 dX3_above_8 rfl ?_
  obtain ⟨fs9, he9, hf⟩ := sd_isC_some hf
  refine sj_cI (rest := []) (fun _ _ _ e => sj_runF (n := 0) 9 (As := []) (rest := []) (sJ31_hasNext l G w2 h _ _ _ e) he9 rfl rfl rfl rfl rfl q2191 q2195 q2197 q181 q2199 (by decide +kernel) rfl rfl (fun _ z => by cases z) ⟨Nat.le_of_ble_eq_true rfl, Nat.le_of_ble_eq_true rfl⟩ rfl (Nat.le_of_ble_eq_true rfl) dX3_above_9) hf (fun r3 h c hf => ?_)
  refine sj_ifeq 74 hf dX3_above_14 (by decide) (fun g14 hf => ?_) (fun g14 hf => ?_)
  · refine sj_iconst (v := (-1)) dX3_above_74 (by decide) ?_
    exact sj_iret (o := sd_oI) hf rfl rfl rfl dX3_above_75
  · refine sj_aload_n 1 dX3_above_17 rfl ?_
    obtain ⟨fs18, he18, hf⟩ := sd_isC_some hf
    refine sj_cR (rest := []) (fun _ _ _ e => sj_runF (n := 0) 10 (As := []) (rest := []) (sJ31_next l G w2 h _ _ _ e) he18 rfl rfl rfl rfl rfl q2201 q2204 q2206 q181 q2208 (by decide +kernel) rfl rfl (fun _ z => by cases z) ⟨Nat.le_of_ble_eq_true rfl, Nat.le_of_ble_eq_true rfl⟩ rfl (Nat.le_of_ble_eq_true rfl) dX3_above_18) hf (fun r4 h c hf => ?_)
    obtain ⟨ci23, fs23, he23, hm23, hf⟩ := sd_cast_some hf
    refine sj_cast he23 hm23 fc_java_util_ArrayList q212 dX3_above_23 ?_
    refine sj_astore_n [(3, .ref r4), (1, .int w1), (2, .ref w2)] dX3_above_26 (by decide) rfl ?_
    refine sj_iconst (v := 0) dX3_above_27 (by decide) ?_
    refine sj_istore [(4, .int 0), (3, .ref r4), (1, .int w1), (2, .ref w2)] dX3_above_28 (by decide) rfl ?_
    exact sj_loc [2, 3, 1, 0] rfl (sX3_above_b30_loop l G a0 a1 ρ h2 cT k8 Hk8 sd_FU (w1, w2, r4, 0) _ _ hf)
theorem sX3_above_b8_loop (l : Launch) (G : sd_G) (a0 : Nat) (a1 : Int32) (ρ : Int32) (h2 : sd_H) (cT : Nat × Nat) (n : Nat) : ∀ (q : Int32 × Nat) (h : sd_H) (c : Nat × Nat), sd_loop (fun k s => fX3_above_b8 G k s.1 s.2) n q h = some (ρ, c, h2) → sd_J mX3_above ((l, G), (3, 64), [.ref a0, .int a1], (sd_oI ρ, h2), cT) 8 [(1, .int q.1), (2, .ref q.2)] [] h c := by
  induction n with
  | zero => intro q h c hf; cases hf
  | succ n ih => intro q h c hf; exact sX3_above_b8 l G a0 a1 ρ h2 cT _ ih _ _ _ _ hf
def fX3_above (G : sd_G) (a0 : Nat) (a1 : Int32) : sd_M Int32 :=
  sd_bnd (sd_getR G 2 2 a0) fun v1 =>
  sd_bnd (sd_isC G 41 v1) fun _ =>
  sd_bnd (fJ2_iterator G v1) fun r2 =>
  sd_loop (fun k s => fX3_above_b8 G k s.1 s.2) sd_FU (a1, r2)
set_option maxHeartbeats 4000000 in
theorem sX3_above (l : Launch) (G : sd_G) (a0 : Nat) (a1 : Int32) (h : sd_H) (ρ : Int32) (cT : Nat × Nat) (h2 : sd_H) (hf : fX3_above G a0 a1 h = some (ρ, cT, h2)) : sd_Met mX3_above ((l, G), (3, 64), [.ref a0, .int a1], (sd_oI ρ, h2), cT) h := by
  refine sd_entry (plainFor_of_name rfl) rfl (Nat.le_of_ble_eq_true rfl) ?_
  show sd_J mX3_above ((l, G), (3, 64), [.ref a0, .int a1], (sd_oI ρ, h2), cT) 0 [(0, .ref a0), (1, .int a1)] [] h cT
  unfold fX3_above at hf
  refine sj_aload_n 0 dX3_above_0 rfl ?_
  refine sj_getR fdX3_21_2 hf dX3_above_1 (fun v1 hf => ?_)
  obtain ⟨fs4, he4, hf⟩ := sd_isC_some hf
  refine sj_cR (rest := []) (fun _ _ _ e => sj_runV (n := 0) (As := []) (rest := []) (sJ2_iterator l G v1 h _ _ _ e) he4 rfl rfl rfl rfl q2167 q2168 q2169 q121 q2170 (by decide +kernel) rfl rfl ⟨Nat.le_of_ble_eq_true rfl, Nat.le_of_ble_eq_true rfl⟩ rfl (Nat.le_of_ble_eq_true rfl) dX3_above_4) hf (fun r2 h c hf => ?_)
  refine sj_astore_n [(2, .ref r2), (0, .ref a0), (1, .int a1)] dX3_above_7 (by decide) rfl ?_
  exact sj_loc [2, 0] rfl (sX3_above_b8_loop l G a0 a1 ρ h2 cT sd_FU (a1, r2) _ _ hf)
/-! SofaDig$Sofa.prop(I)Z -/
abbrev cX3_prop : ByteArray := prog_29_method_8_code
def yX3_prop : MethodName := ⟨RX3, "prop", "(I)Z"⟩
def dkwX3_prop_1 : List UInt8 := [27, 120, 128, 181, 0, 68, 4, 172]
abbrev dktX3_prop_1 : List UInt8 := dkwX3_prop_1 ++ []
def dkwX3_prop_0 : List UInt8 := [42, 27, 182, 0, 71, 154, 0, 11, 42, 182, 0, 75, 6, 160, 0, 5, 3, 172, 42, 89, 180, 0, 68, 4]
abbrev dktX3_prop_0 : List UInt8 := dkwX3_prop_0 ++ dktX3_prop_1
theorem dksX3_prop_0 : cX3_prop.data.toList.drop 0 = dktX3_prop_0 := by decide +kernel
theorem dksX3_prop_1 : cX3_prop.data.toList.drop 24 = dktX3_prop_1 := dk_seg dksX3_prop_0 24 rfl rfl
theorem dX3_prop_0 : decode cX3_prop 0 = .ok (.aload_n 0, 1) := dk_42 (dk_at dksX3_prop_0 0 rfl rfl)
theorem dX3_prop_1 : decode cX3_prop 1 = .ok (.iload_n 1, 1) := dk_27 (dk_at dksX3_prop_0 1 rfl rfl)
theorem dX3_prop_2 : decode cX3_prop 2 = .ok (.invokevirtual 71, 3) := dk_182 0 71 (dk_at dksX3_prop_0 2 rfl rfl)
theorem dX3_prop_5 : decode cX3_prop 5 = .ok (.ifCond .ne 11, 3) := dk_154 0 11 (dk_at dksX3_prop_0 5 rfl rfl)
theorem dX3_prop_8 : decode cX3_prop 8 = .ok (.aload_n 0, 1) := dk_42 (dk_at dksX3_prop_0 8 rfl rfl)
theorem dX3_prop_9 : decode cX3_prop 9 = .ok (.invokevirtual 75, 3) := dk_182 0 75 (dk_at dksX3_prop_0 9 rfl rfl)
theorem dX3_prop_12 : decode cX3_prop 12 = .ok (.iconst 3, 1) := dk_6 (dk_at dksX3_prop_0 12 rfl rfl)
theorem dX3_prop_13 : decode cX3_prop 13 = .ok (.if_icmp .ne 5, 3) := dk_160 0 5 (dk_at dksX3_prop_0 13 rfl rfl)
theorem dX3_prop_16 : decode cX3_prop 16 = .ok (.iconst 0, 1) := dk_3 (dk_at dksX3_prop_0 16 rfl rfl)
theorem dX3_prop_17 : decode cX3_prop 17 = .ok (.ireturn, 1) := dk_172 (dk_at dksX3_prop_0 17 rfl rfl)
theorem dX3_prop_18 : decode cX3_prop 18 = .ok (.aload_n 0, 1) := dk_42 (dk_at dksX3_prop_0 18 rfl rfl)
theorem dX3_prop_19 : decode cX3_prop 19 = .ok (.dup, 1) := dk_89 (dk_at dksX3_prop_0 19 rfl rfl)
theorem dX3_prop_20 : decode cX3_prop 20 = .ok (.getfield 68, 3) := dk_180 0 68 (dk_at dksX3_prop_0 20 rfl rfl)
theorem dX3_prop_23 : decode cX3_prop 23 = .ok (.iconst 1, 1) := dk_4 (dk_at dksX3_prop_0 23 rfl rfl)
theorem dX3_prop_24 : decode cX3_prop 24 = .ok (.iload_n 1, 1) := dk_27 (dk_at dksX3_prop_1 0 rfl rfl)
theorem dX3_prop_25 : decode cX3_prop 25 = .ok (.ishl, 1) := dk_120 (dk_at dksX3_prop_1 1 rfl rfl)
theorem dX3_prop_26 : decode cX3_prop 26 = .ok (.ior, 1) := dk_128 (dk_at dksX3_prop_1 2 rfl rfl)
theorem dX3_prop_27 : decode cX3_prop 27 = .ok (.putfield 68, 3) := dk_181 0 68 (dk_at dksX3_prop_1 3 rfl rfl)
theorem dX3_prop_30 : decode cX3_prop 30 = .ok (.iconst 1, 1) := dk_4 (dk_at dksX3_prop_1 6 rfl rfl)
theorem dX3_prop_31 : decode cX3_prop 31 = .ok (.ireturn, 1) := dk_172 (dk_at dksX3_prop_1 7 rfl rfl)
abbrev mX3_prop : sd_Y := (yX3_prop, cX3_prop, 2, some (.boolean), none)
def fX3_prop (G : sd_G) (a0 : Nat) (a1 : Int32) : sd_M Int32 :=
  sd_bnd (sd_isC G 2 a0) fun _ =>
  sd_bnd (fX3_isPropped G a0 a1) fun r1 =>
  if r1 = 0 then (
    sd_bnd (sd_isC G 2 a0) fun _ =>
    sd_bnd (fX3_props G a0) fun r2 =>
    if r2 = 3 then (
      sd_ret 0)
    else (
      sd_bnd (sd_getI G 2 7 a0) fun v3 =>
      sd_bnd (sd_put 2 7 .int a0 (.int (v3 ||| ((1 : Int32) <<< (a1 &&& 31))))) fun _ =>
      sd_ret 1))
  else (
    sd_ret 0)
set_option maxHeartbeats 4000000 in
theorem sX3_prop (l : Launch) (G : sd_G) (a0 : Nat) (a1 : Int32) (h : sd_H) (ρ : Int32) (cT : Nat × Nat) (h2 : sd_H) (hf : fX3_prop G a0 a1 h = some (ρ, cT, h2)) : sd_Met mX3_prop ((l, G), (2, 43), [.ref a0, .int a1], (sd_oI ρ, h2), cT) h := by
  refine sd_entry (plainFor_of_name rfl) rfl (Nat.le_of_ble_eq_true rfl) ?_
  show sd_J mX3_prop ((l, G), (2, 43), [.ref a0, .int a1], (sd_oI ρ, h2), cT) 0 [(0, .ref a0), (1, .int a1)] [] h cT
  unfold fX3_prop at hf
  refine sj_aload_n 0 dX3_prop_0 rfl ?_
  refine sj_iload_n 1 dX3_prop_1 rfl ?_
  obtain ⟨fs2, he2, hf⟩ := sd_isC_some hf
  refine sj_cI (rest := []) (fun _ _ _ e => sj_runV (n := 1) (As := [.int a1]) (rest := []) (sX3_isPropped l G a0 a1 h _ _ _ e) he2 rfl rfl rfl rfl q2146 q2147 q2148 q118 q2149 (by decide +kernel) rfl rfl ⟨Nat.le_of_ble_eq_true rfl, Nat.le_of_ble_eq_true rfl⟩ rfl (Nat.le_of_ble_eq_true rfl) dX3_prop_2) hf (fun r1 h c hf => ?_)
  refine sj_ifne 16 hf dX3_prop_5 (by decide) (fun g5 hf => ?_) (fun g5 hf => ?_)
  · refine sj_iconst (v := 0) dX3_prop_16 (by decide) ?_
    exact sj_zretC (o := sd_oI) (ty := .boolean) rfl hf rfl rfl rfl dX3_prop_17
  · refine sj_aload_n 0 dX3_prop_8 rfl ?_
    obtain ⟨fs9, he9, hf⟩ := sd_isC_some hf
    refine sj_cI (rest := []) (fun _ _ _ e => sj_runV (n := 0) (As := []) (rest := []) (sX3_props l G a0 h _ _ _ e) he9 rfl rfl rfl rfl q2566 q2143 q2144 q118 q2145 (by decide +kernel) rfl rfl ⟨Nat.le_of_ble_eq_true rfl, Nat.le_of_ble_eq_true rfl⟩ rfl (Nat.le_of_ble_eq_true rfl) dX3_prop_9) hf (fun r2 h c hf => ?_)
    refine sj_iconst (v := 3) dX3_prop_12 (by decide) ?_
    refine sj_icne 18 hf dX3_prop_13 (by decide) (fun g13 hf => ?_) (fun g13 hf => ?_)
    · refine sj_aload_n 0 dX3_prop_18 rfl ?_
      refine sj_dup dX3_prop_19 rfl ?_
      refine sj_getI fdX3_68_2 hf dX3_prop_20 (fun v3 hf => ?_)
      refine sj_iconst (v := 1) dX3_prop_23 (by decide) ?_
      refine sj_iload_n 1 dX3_prop_24 rfl ?_
      refine sj_ishl dX3_prop_25 ?_
      refine sj_ior dX3_prop_26 ?_
      refine sj_put (fpX3_68_2 _ _) hf dX3_prop_27 (fun h hf => ?_)
      refine sj_iconst (v := 1) dX3_prop_30 (by decide) ?_
      exact sj_zretC (o := sd_oI) (ty := .boolean) rfl hf rfl rfl rfl dX3_prop_31
    · refine sj_iconst (v := 0) dX3_prop_16 (by decide) ?_
      exact sj_zretC (o := sd_oI) (ty := .boolean) rfl hf rfl rfl rfl dX3_prop_17
/-! SofaDig$Sofa.free(I)V -/
abbrev cX3_free : ByteArray := prog_29_method_9_code
def yX3_free : MethodName := ⟨RX3, "free", "(I)V"⟩
def dkwX3_free_0 : List UInt8 := [42, 89, 180, 0, 68, 4, 27, 120, 2, 130, 126, 181, 0, 68, 42, 182, 0, 78, 177]
abbrev dktX3_free_0 : List UInt8 := dkwX3_free_0 ++ []
theorem dksX3_free_0 : cX3_free.data.toList.drop 0 = dktX3_free_0 := by decide +kernel
theorem dX3_free_0 : decode cX3_free 0 = .ok (.aload_n 0, 1) := dk_42 (dk_at dksX3_free_0 0 rfl rfl)
theorem dX3_free_1 : decode cX3_free 1 = .ok (.dup, 1) := dk_89 (dk_at dksX3_free_0 1 rfl rfl)
theorem dX3_free_2 : decode cX3_free 2 = .ok (.getfield 68, 3) := dk_180 0 68 (dk_at dksX3_free_0 2 rfl rfl)
theorem dX3_free_5 : decode cX3_free 5 = .ok (.iconst 1, 1) := dk_4 (dk_at dksX3_free_0 5 rfl rfl)
theorem dX3_free_6 : decode cX3_free 6 = .ok (.iload_n 1, 1) := dk_27 (dk_at dksX3_free_0 6 rfl rfl)
theorem dX3_free_7 : decode cX3_free 7 = .ok (.ishl, 1) := dk_120 (dk_at dksX3_free_0 7 rfl rfl)
theorem dX3_free_8 : decode cX3_free 8 = .ok (.iconst (-1), 1) := dk_2 (dk_at dksX3_free_0 8 rfl rfl)
theorem dX3_free_9 : decode cX3_free 9 = .ok (.ixor, 1) := dk_130 (dk_at dksX3_free_0 9 rfl rfl)
theorem dX3_free_10 : decode cX3_free 10 = .ok (.iand, 1) := dk_126 (dk_at dksX3_free_0 10 rfl rfl)
theorem dX3_free_11 : decode cX3_free 11 = .ok (.putfield 68, 3) := dk_181 0 68 (dk_at dksX3_free_0 11 rfl rfl)
theorem dX3_free_14 : decode cX3_free 14 = .ok (.aload_n 0, 1) := dk_42 (dk_at dksX3_free_0 14 rfl rfl)
theorem dX3_free_15 : decode cX3_free 15 = .ok (.invokevirtual 78, 3) := dk_182 0 78 (dk_at dksX3_free_0 15 rfl rfl)
theorem dX3_free_18 : decode cX3_free 18 = .ok (.return_, 1) := dk_177 (dk_at dksX3_free_0 18 rfl rfl)
abbrev mX3_free : sd_Y := (yX3_free, cX3_free, 2, none, none)
def fX3_free (G : sd_G) (a0 : Nat) (a1 : Int32) : sd_M Unit :=
  sd_bnd (sd_getI G 2 7 a0) fun v1 =>
  sd_bnd (sd_put 2 7 .int a0 (.int (v1 &&& (((1 : Int32) <<< (a1 &&& 31)) ^^^ (-1))))) fun _ =>
  sd_bnd (sd_isC G 2 a0) fun _ =>
  sd_bnd (fX3_settle G a0) fun _ =>
  sd_ret ()
set_option maxHeartbeats 4000000 in
theorem sX3_free (l : Launch) (G : sd_G) (a0 : Nat) (a1 : Int32) (h : sd_H) (ρ : Unit) (cT : Nat × Nat) (h2 : sd_H) (hf : fX3_free G a0 a1 h = some (ρ, cT, h2)) : sd_Met mX3_free ((l, G), (8, 175), [.ref a0, .int a1], (sd_oV ρ, h2), cT) h := by
  refine sd_entry (plainFor_of_name rfl) rfl (Nat.le_of_ble_eq_true rfl) ?_
  show sd_J mX3_free ((l, G), (8, 175), [.ref a0, .int a1], (sd_oV ρ, h2), cT) 0 [(0, .ref a0), (1, .int a1)] [] h cT
  unfold fX3_free at hf
  refine sj_aload_n 0 dX3_free_0 rfl ?_
  refine sj_dup dX3_free_1 rfl ?_
  refine sj_getI fdX3_68_2 hf dX3_free_2 (fun v1 hf => ?_)
  refine sj_iconst (v := 1) dX3_free_5 (by decide) ?_
  refine sj_iload_n 1 dX3_free_6 rfl ?_
  refine sj_ishl dX3_free_7 ?_
  refine sj_iconst (v := (-1)) dX3_free_8 (by decide) ?_
  refine sj_ixor dX3_free_9 ?_
  refine sj_iand dX3_free_10 ?_
  refine sj_put (fpX3_68_2 _ _) hf dX3_free_11 (fun h hf => ?_)
  refine sj_aload_n 0 dX3_free_14 rfl ?_
  obtain ⟨fs15, he15, hf⟩ := sd_isC_some hf
  refine sj_cV (rest := []) (fun _ _ _ e => sj_runV (n := 0) (As := []) (rest := []) (sX3_settle l G a0 h _ _ _ e) he15 rfl rfl rfl rfl q2252 q2254 qs34 q118 q2255 (by decide +kernel) rfl rfl ⟨Nat.le_of_ble_eq_true rfl, Nat.le_of_ble_eq_true rfl⟩ rfl (Nat.le_of_ble_eq_true rfl) dX3_free_15) hf (fun h c hf => ?_)
  exact sj_vret (o := sd_oV) hf rfl rfl rfl dX3_free_18
/-! SofaDig$What$2.of(LSofaDig$Sofa;I)I -/
abbrev cX40_of : ByteArray := prog_40_method_2_code
def yX40_of : MethodName := ⟨RX40, "of", "(LSofaDig$Sofa;I)I"⟩
theorem dX40_of_0 : decode cX40_of 0 = .ok (.aload_n 1, 1) := by decide +kernel
theorem dX40_of_1 : decode cX40_of 1 = .ok (.invokevirtual 7, 3) := by decide +kernel
theorem dX40_of_4 : decode cX40_of 4 = .ok (.ireturn, 1) := by decide +kernel
abbrev mX40_of : sd_Y := (yX40_of, cX40_of, 3, some (.int), none)
def fX40_of (G : sd_G) (a0 : Nat) (a1 : Nat) (a2 : Int32) : sd_M Int32 :=
  sd_bnd (sd_isC G 2 a1) fun _ =>
  sd_bnd (fX3_found G a1) fun r1 =>
  sd_ret r1
set_option maxHeartbeats 4000000 in
theorem sX40_of (l : Launch) (G : sd_G) (a0 : Nat) (a1 : Nat) (a2 : Int32) (h : sd_H) (ρ : Int32) (cT : Nat × Nat) (h2 : sd_H) (hf : fX40_of G a0 a1 a2 h = some (ρ, cT, h2)) : sd_Met mX40_of ((l, G), (2, 42), [.ref a0, .ref a1, .int a2], (sd_oI ρ, h2), cT) h := by
  refine sd_entry (plainFor_of_name rfl) rfl (Nat.le_of_ble_eq_true rfl) ?_
  show sd_J mX40_of ((l, G), (2, 42), [.ref a0, .ref a1, .int a2], (sd_oI ρ, h2), cT) 0 [(0, .ref a0), (1, .ref a1), (2, .int a2)] [] h cT
  unfold fX40_of at hf
  refine sj_aload_n 1 dX40_of_0 rfl ?_
  obtain ⟨fs1, he1, hf⟩ := sd_isC_some hf
  refine sj_cI (rest := []) (fun _ _ _ e => sj_runV (n := 0) (As := []) (rest := []) (sX3_found l G a1 h _ _ _ e) he1 rfl rfl rfl rfl q2616 q2126 q2127 q118 q2128 (by decide +kernel) rfl rfl ⟨Nat.le_of_ble_eq_true rfl, Nat.le_of_ble_eq_true rfl⟩ rfl (Nat.le_of_ble_eq_true rfl) dX40_of_1) hf (fun r1 h c hf => ?_)
  exact sj_iret (o := sd_oI) hf rfl rfl rfl dX40_of_4
/-! SofaDig$What$3.of(LSofaDig$Sofa;I)I -/
abbrev cX30_of : ByteArray := prog_41_method_2_code
def yX30_of : MethodName := ⟨RX30, "of", "(LSofaDig$Sofa;I)I"⟩
theorem dX30_of_0 : decode cX30_of 0 = .ok (.aload_n 1, 1) := by decide +kernel
theorem dX30_of_1 : decode cX30_of 1 = .ok (.getfield 7, 3) := by decide +kernel
theorem dX30_of_4 : decode cX30_of 4 = .ok (.ireturn, 1) := by decide +kernel
theorem fdX30_7_2 : sd_Fd "SofaDig$What$3" 7 2 11 := ⟨(RX3, TX3, 12), "SofaDig$Sofa", rfl, by decide, rfl, in_X3, Or.inl rfl, Or.inr ⟨_, q272⟩⟩
abbrev mX30_of : sd_Y := (yX30_of, cX30_of, 3, some (.int), none)
def fX30_of (G : sd_G) (a0 : Nat) (a1 : Nat) (a2 : Int32) : sd_M Int32 :=
  sd_bnd (sd_getI G 2 11 a1) fun v1 =>
  sd_ret v1
set_option maxHeartbeats 4000000 in
theorem sX30_of (l : Launch) (G : sd_G) (a0 : Nat) (a1 : Nat) (a2 : Int32) (h : sd_H) (ρ : Int32) (cT : Nat × Nat) (h2 : sd_H) (hf : fX30_of G a0 a1 a2 h = some (ρ, cT, h2)) : sd_Met mX30_of ((l, G), (0, 0), [.ref a0, .ref a1, .int a2], (sd_oI ρ, h2), cT) h := by
  refine sd_entry (plainFor_of_name rfl) rfl (Nat.le_of_ble_eq_true rfl) ?_
  show sd_J mX30_of ((l, G), (0, 0), [.ref a0, .ref a1, .int a2], (sd_oI ρ, h2), cT) 0 [(0, .ref a0), (1, .ref a1), (2, .int a2)] [] h cT
  unfold fX30_of at hf
  refine sj_aload_n 1 dX30_of_0 rfl ?_
  refine sj_getI fdX30_7_2 hf dX30_of_1 (fun v1 hf => ?_)
  exact sj_iret (o := sd_oI) hf rfl rfl rfl dX30_of_4
/-! SofaDig$What$4.of(LSofaDig$Sofa;I)I -/
abbrev cX41_of : ByteArray := prog_42_method_2_code
def yX41_of : MethodName := ⟨RX41, "of", "(LSofaDig$Sofa;I)I"⟩
theorem dX41_of_0 : decode cX41_of 0 = .ok (.aload_n 1, 1) := by decide +kernel
theorem dX41_of_1 : decode cX41_of 1 = .ok (.invokevirtual 7, 3) := by decide +kernel
theorem dX41_of_4 : decode cX41_of 4 = .ok (.ireturn, 1) := by decide +kernel
abbrev mX41_of : sd_Y := (yX41_of, cX41_of, 3, some (.int), none)
def fX41_of (G : sd_G) (a0 : Nat) (a1 : Nat) (a2 : Int32) : sd_M Int32 :=
  sd_bnd (sd_isC G 2 a1) fun _ =>
  sd_bnd (fX3_props G a1) fun r1 =>
  sd_ret r1
set_option maxHeartbeats 4000000 in
theorem sX41_of (l : Launch) (G : sd_G) (a0 : Nat) (a1 : Nat) (a2 : Int32) (h : sd_H) (ρ : Int32) (cT : Nat × Nat) (h2 : sd_H) (hf : fX41_of G a0 a1 a2 h = some (ρ, cT, h2)) : sd_Met mX41_of ((l, G), (2, 43), [.ref a0, .ref a1, .int a2], (sd_oI ρ, h2), cT) h := by
  refine sd_entry (plainFor_of_name rfl) rfl (Nat.le_of_ble_eq_true rfl) ?_
  show sd_J mX41_of ((l, G), (2, 43), [.ref a0, .ref a1, .int a2], (sd_oI ρ, h2), cT) 0 [(0, .ref a0), (1, .ref a1), (2, .int a2)] [] h cT
  unfold fX41_of at hf
  refine sj_aload_n 1 dX41_of_0 rfl ?_
  obtain ⟨fs1, he1, hf⟩ := sd_isC_some hf
  refine sj_cI (rest := []) (fun _ _ _ e => sj_runV (n := 0) (As := []) (rest := []) (sX3_props l G a1 h _ _ _ e) he1 rfl rfl rfl rfl q2623 q2143 q2144 q118 q2145 (by decide +kernel) rfl rfl ⟨Nat.le_of_ble_eq_true rfl, Nat.le_of_ble_eq_true rfl⟩ rfl (Nat.le_of_ble_eq_true rfl) dX41_of_1) hf (fun r1 h c hf => ?_)
  exact sj_iret (o := sd_oI) hf rfl rfl rfl dX41_of_4
/-! SofaDig$What$5.of(LSofaDig$Sofa;I)I -/
abbrev cX27_of : ByteArray := prog_43_method_2_code
def yX27_of : MethodName := ⟨RX27, "of", "(LSofaDig$Sofa;I)I"⟩
def dkwX27_of_0 : List UInt8 := [43, 180, 0, 7, 28, 182, 0, 13, 192, 0, 19, 180, 0, 21, 172]
abbrev dktX27_of_0 : List UInt8 := dkwX27_of_0 ++ []
theorem dksX27_of_0 : cX27_of.data.toList.drop 0 = dktX27_of_0 := by decide +kernel
theorem dX27_of_0 : decode cX27_of 0 = .ok (.aload_n 1, 1) := dk_43 (dk_at dksX27_of_0 0 rfl rfl)
theorem dX27_of_1 : decode cX27_of 1 = .ok (.getfield 7, 3) := dk_180 0 7 (dk_at dksX27_of_0 1 rfl rfl)
theorem dX27_of_4 : decode cX27_of 4 = .ok (.iload_n 2, 1) := dk_28 (dk_at dksX27_of_0 4 rfl rfl)
theorem dX27_of_5 : decode cX27_of 5 = .ok (.invokevirtual 13, 3) := dk_182 0 13 (dk_at dksX27_of_0 5 rfl rfl)
theorem dX27_of_8 : decode cX27_of 8 = .ok (.checkcast 19, 3) := dk_192 0 19 (dk_at dksX27_of_0 8 rfl rfl)
theorem dX27_of_11 : decode cX27_of 11 = .ok (.getfield 21, 3) := dk_180 0 21 (dk_at dksX27_of_0 11 rfl rfl)
theorem dX27_of_14 : decode cX27_of 14 = .ok (.ireturn, 1) := dk_172 (dk_at dksX27_of_0 14 rfl rfl)
theorem fdX27_7_2 : sd_Fd "SofaDig$What$5" 7 2 3 := ⟨(RX3, TX3, 12), "SofaDig$Sofa", rfl, by decide, rfl, in_X3, Or.inl rfl, Or.inr ⟨_, q251⟩⟩
theorem fdX27_21_10 : sd_Fd "SofaDig$What$5" 21 10 0 := ⟨(RX11, TX11, 2), "SofaDig$Empire", rfl, by decide, rfl, in_X11, Or.inl rfl, Or.inr ⟨_, q1628⟩⟩
abbrev mX27_of : sd_Y := (yX27_of, cX27_of, 3, some (.int), none)
def fX27_of (G : sd_G) (a0 : Nat) (a1 : Nat) (a2 : Int32) : sd_M Int32 :=
  sd_bnd (sd_getR G 2 3 a1) fun v1 =>
  sd_bnd (sd_isC G 41 v1) fun _ =>
  sd_bnd (fJ2_get G v1 a2) fun r2 =>
  sd_bnd (sd_cast G [10] r2) fun _ =>
  sd_bnd (sd_getI G 10 0 r2) fun v3 =>
  sd_ret v3
set_option maxHeartbeats 4000000 in
theorem sX27_of (l : Launch) (G : sd_G) (a0 : Nat) (a1 : Nat) (a2 : Int32) (h : sd_H) (ρ : Int32) (cT : Nat × Nat) (h2 : sd_H) (hf : fX27_of G a0 a1 a2 h = some (ρ, cT, h2)) : sd_Met mX27_of ((l, G), (3, 64), [.ref a0, .ref a1, .int a2], (sd_oI ρ, h2), cT) h := by
  refine sd_entry (plainFor_of_name rfl) rfl (Nat.le_of_ble_eq_true rfl) ?_
  show sd_J mX27_of ((l, G), (3, 64), [.ref a0, .ref a1, .int a2], (sd_oI ρ, h2), cT) 0 [(0, .ref a0), (1, .ref a1), (2, .int a2)] [] h cT
  unfold fX27_of at hf
  refine sj_aload_n 1 dX27_of_0 rfl ?_
  refine sj_getR fdX27_7_2 hf dX27_of_1 (fun v1 hf => ?_)
  refine sj_iload_n 2 dX27_of_4 rfl ?_
  obtain ⟨fs5, he5, hf⟩ := sd_isC_some hf
  refine sj_cR (rest := []) (fun _ _ _ e => sj_runV (n := 1) (As := [.int a2]) (rest := []) (sJ2_get l G v1 a2 h _ _ _ e) he5 rfl rfl rfl rfl q2627 q1002 q3425 q121 q1004 (by decide +kernel) rfl rfl ⟨Nat.le_of_ble_eq_true rfl, Nat.le_of_ble_eq_true rfl⟩ rfl (Nat.le_of_ble_eq_true rfl) dX27_of_5) hf (fun r2 h c hf => ?_)
  obtain ⟨ci8, fs8, he8, hm8, hf⟩ := sd_cast_some hf
  refine sj_cast he8 hm8 fc_SofaDig_Empire q2628 dX27_of_8 ?_
  refine sj_getI fdX27_21_10 hf dX27_of_11 (fun v3 hf => ?_)
  exact sj_iret (o := sd_oI) hf rfl rfl rfl dX27_of_14
/-! SofaDig$What$6.of(LSofaDig$Sofa;I)I -/
abbrev cX28_of : ByteArray := prog_44_method_2_code
def yX28_of : MethodName := ⟨RX28, "of", "(LSofaDig$Sofa;I)I"⟩
def dkwX28_of_0 : List UInt8 := [43, 180, 0, 7, 28, 182, 0, 13, 192, 0, 19, 180, 0, 21, 172]
abbrev dktX28_of_0 : List UInt8 := dkwX28_of_0 ++ []
theorem dksX28_of_0 : cX28_of.data.toList.drop 0 = dktX28_of_0 := by decide +kernel
theorem dX28_of_0 : decode cX28_of 0 = .ok (.aload_n 1, 1) := dk_43 (dk_at dksX28_of_0 0 rfl rfl)
theorem dX28_of_1 : decode cX28_of 1 = .ok (.getfield 7, 3) := dk_180 0 7 (dk_at dksX28_of_0 1 rfl rfl)
theorem dX28_of_4 : decode cX28_of 4 = .ok (.iload_n 2, 1) := dk_28 (dk_at dksX28_of_0 4 rfl rfl)
theorem dX28_of_5 : decode cX28_of 5 = .ok (.invokevirtual 13, 3) := dk_182 0 13 (dk_at dksX28_of_0 5 rfl rfl)
theorem dX28_of_8 : decode cX28_of 8 = .ok (.checkcast 19, 3) := dk_192 0 19 (dk_at dksX28_of_0 8 rfl rfl)
theorem dX28_of_11 : decode cX28_of 11 = .ok (.getfield 21, 3) := dk_180 0 21 (dk_at dksX28_of_0 11 rfl rfl)
theorem dX28_of_14 : decode cX28_of 14 = .ok (.ireturn, 1) := dk_172 (dk_at dksX28_of_0 14 rfl rfl)
theorem fdX28_7_2 : sd_Fd "SofaDig$What$6" 7 2 3 := ⟨(RX3, TX3, 12), "SofaDig$Sofa", rfl, by decide, rfl, in_X3, Or.inl rfl, Or.inr ⟨_, q252⟩⟩
theorem fdX28_21_10 : sd_Fd "SofaDig$What$6" 21 10 1 := ⟨(RX11, TX11, 2), "SofaDig$Empire", rfl, by decide, rfl, in_X11, Or.inl rfl, Or.inr ⟨_, q1631⟩⟩
abbrev mX28_of : sd_Y := (yX28_of, cX28_of, 3, some (.int), none)
def fX28_of (G : sd_G) (a0 : Nat) (a1 : Nat) (a2 : Int32) : sd_M Int32 :=
  sd_bnd (sd_getR G 2 3 a1) fun v1 =>
  sd_bnd (sd_isC G 41 v1) fun _ =>
  sd_bnd (fJ2_get G v1 a2) fun r2 =>
  sd_bnd (sd_cast G [10] r2) fun _ =>
  sd_bnd (sd_getI G 10 1 r2) fun v3 =>
  sd_ret v3
set_option maxHeartbeats 4000000 in
theorem sX28_of (l : Launch) (G : sd_G) (a0 : Nat) (a1 : Nat) (a2 : Int32) (h : sd_H) (ρ : Int32) (cT : Nat × Nat) (h2 : sd_H) (hf : fX28_of G a0 a1 a2 h = some (ρ, cT, h2)) : sd_Met mX28_of ((l, G), (3, 64), [.ref a0, .ref a1, .int a2], (sd_oI ρ, h2), cT) h := by
  refine sd_entry (plainFor_of_name rfl) rfl (Nat.le_of_ble_eq_true rfl) ?_
  show sd_J mX28_of ((l, G), (3, 64), [.ref a0, .ref a1, .int a2], (sd_oI ρ, h2), cT) 0 [(0, .ref a0), (1, .ref a1), (2, .int a2)] [] h cT
  unfold fX28_of at hf
  refine sj_aload_n 1 dX28_of_0 rfl ?_
  refine sj_getR fdX28_7_2 hf dX28_of_1 (fun v1 hf => ?_)
  refine sj_iload_n 2 dX28_of_4 rfl ?_
  obtain ⟨fs5, he5, hf⟩ := sd_isC_some hf
  refine sj_cR (rest := []) (fun _ _ _ e => sj_runV (n := 1) (As := [.int a2]) (rest := []) (sJ2_get l G v1 a2 h _ _ _ e) he5 rfl rfl rfl rfl q2632 q1002 q3425 q121 q1004 (by decide +kernel) rfl rfl ⟨Nat.le_of_ble_eq_true rfl, Nat.le_of_ble_eq_true rfl⟩ rfl (Nat.le_of_ble_eq_true rfl) dX28_of_5) hf (fun r2 h c hf => ?_)
  obtain ⟨ci8, fs8, he8, hm8, hf⟩ := sd_cast_some hf
  refine sj_cast he8 hm8 fc_SofaDig_Empire q2633 dX28_of_8 ?_
  refine sj_getI fdX28_21_10 hf dX28_of_11 (fun v3 hf => ?_)
  exact sj_iret (o := sd_oI) hf rfl rfl rfl dX28_of_14
/-! SofaDig$Sign$2.join(II)I -/
abbrev cX35_join : ByteArray := prog_24_method_2_code
def yX35_join : MethodName := ⟨RX35, "join", "(II)I"⟩
def dkwX35_join_0 : List UInt8 := [27, 28, 100, 172]
abbrev dktX35_join_0 : List UInt8 := dkwX35_join_0 ++ []
theorem dksX35_join_0 : cX35_join.data.toList.drop 0 = dktX35_join_0 := by decide +kernel
theorem dX35_join_0 : decode cX35_join 0 = .ok (.iload_n 1, 1) := dk_27 (dk_at dksX35_join_0 0 rfl rfl)
theorem dX35_join_1 : decode cX35_join 1 = .ok (.iload_n 2, 1) := dk_28 (dk_at dksX35_join_0 1 rfl rfl)
theorem dX35_join_2 : decode cX35_join 2 = .ok (.isub, 1) := dk_100 (dk_at dksX35_join_0 2 rfl rfl)
theorem dX35_join_3 : decode cX35_join 3 = .ok (.ireturn, 1) := dk_172 (dk_at dksX35_join_0 3 rfl rfl)
abbrev mX35_join : sd_Y := (yX35_join, cX35_join, 3, some (.int), none)
def fX35_join (G : sd_G) (a0 : Nat) (a1 : Int32) (a2 : Int32) : sd_M Int32 :=
  sd_ret (a1 - a2)
set_option maxHeartbeats 4000000 in
theorem sX35_join (l : Launch) (G : sd_G) (a0 : Nat) (a1 : Int32) (a2 : Int32) (h : sd_H) (ρ : Int32) (cT : Nat × Nat) (h2 : sd_H) (hf : fX35_join G a0 a1 a2 h = some (ρ, cT, h2)) : sd_Met mX35_join ((l, G), (0, 0), [.ref a0, .int a1, .int a2], (sd_oI ρ, h2), cT) h := by
  refine sd_entry (plainFor_of_name rfl) rfl (Nat.le_of_ble_eq_true rfl) ?_
  show sd_J mX35_join ((l, G), (0, 0), [.ref a0, .int a1, .int a2], (sd_oI ρ, h2), cT) 0 [(0, .ref a0), (1, .int a1), (2, .int a2)] [] h cT
  unfold fX35_join at hf
  refine sj_iload_n 1 dX35_join_0 rfl ?_
  refine sj_iload_n 2 dX35_join_1 rfl ?_
  refine sj_isub dX35_join_2 ?_
  exact sj_iret (o := sd_oI) hf rfl rfl rfl dX35_join_3
/-! SofaDig$Sign$3.join(II)I -/
abbrev cX36_join : ByteArray := prog_25_method_2_code
def yX36_join : MethodName := ⟨RX36, "join", "(II)I"⟩
def dkwX36_join_0 : List UInt8 := [27, 28, 104, 172]
abbrev dktX36_join_0 : List UInt8 := dkwX36_join_0 ++ []
theorem dksX36_join_0 : cX36_join.data.toList.drop 0 = dktX36_join_0 := by decide +kernel
theorem dX36_join_0 : decode cX36_join 0 = .ok (.iload_n 1, 1) := dk_27 (dk_at dksX36_join_0 0 rfl rfl)
theorem dX36_join_1 : decode cX36_join 1 = .ok (.iload_n 2, 1) := dk_28 (dk_at dksX36_join_0 1 rfl rfl)
theorem dX36_join_2 : decode cX36_join 2 = .ok (.imul, 1) := dk_104 (dk_at dksX36_join_0 2 rfl rfl)
theorem dX36_join_3 : decode cX36_join 3 = .ok (.ireturn, 1) := dk_172 (dk_at dksX36_join_0 3 rfl rfl)
abbrev mX36_join : sd_Y := (yX36_join, cX36_join, 3, some (.int), none)
def fX36_join (G : sd_G) (a0 : Nat) (a1 : Int32) (a2 : Int32) : sd_M Int32 :=
  sd_ret (a1 * a2)
set_option maxHeartbeats 4000000 in
theorem sX36_join (l : Launch) (G : sd_G) (a0 : Nat) (a1 : Int32) (a2 : Int32) (h : sd_H) (ρ : Int32) (cT : Nat × Nat) (h2 : sd_H) (hf : fX36_join G a0 a1 a2 h = some (ρ, cT, h2)) : sd_Met mX36_join ((l, G), (0, 0), [.ref a0, .int a1, .int a2], (sd_oI ρ, h2), cT) h := by
  refine sd_entry (plainFor_of_name rfl) rfl (Nat.le_of_ble_eq_true rfl) ?_
  show sd_J mX36_join ((l, G), (0, 0), [.ref a0, .int a1, .int a2], (sd_oI ρ, h2), cT) 0 [(0, .ref a0), (1, .int a1), (2, .int a2)] [] h cT
  unfold fX36_join at hf
  refine sj_iload_n 1 dX36_join_0 rfl ?_
  refine sj_iload_n 2 dX36_join_1 rfl ?_
  refine sj_imul dX36_join_2 ?_
  exact sj_iret (o := sd_oI) hf rfl rfl rfl dX36_join_3
/-! SofaDig$Sign$4.join(II)I -/
abbrev cX37_join : ByteArray := prog_26_method_2_code
def yX37_join : MethodName := ⟨RX37, "join", "(II)I"⟩
def dkwX37_join_0 : List UInt8 := [28, 154, 0, 7, 3, 167, 0, 6, 27, 28, 108, 172]
abbrev dktX37_join_0 : List UInt8 := dkwX37_join_0 ++ []
theorem dksX37_join_0 : cX37_join.data.toList.drop 0 = dktX37_join_0 := by decide +kernel
theorem dX37_join_0 : decode cX37_join 0 = .ok (.iload_n 2, 1) := dk_28 (dk_at dksX37_join_0 0 rfl rfl)
theorem dX37_join_1 : decode cX37_join 1 = .ok (.ifCond .ne 7, 3) := dk_154 0 7 (dk_at dksX37_join_0 1 rfl rfl)
theorem dX37_join_4 : decode cX37_join 4 = .ok (.iconst 0, 1) := dk_3 (dk_at dksX37_join_0 4 rfl rfl)
theorem dX37_join_5 : decode cX37_join 5 = .ok (.goto 6, 3) := dk_167 0 6 (dk_at dksX37_join_0 5 rfl rfl)
theorem dX37_join_8 : decode cX37_join 8 = .ok (.iload_n 1, 1) := dk_27 (dk_at dksX37_join_0 8 rfl rfl)
theorem dX37_join_9 : decode cX37_join 9 = .ok (.iload_n 2, 1) := dk_28 (dk_at dksX37_join_0 9 rfl rfl)
theorem dX37_join_10 : decode cX37_join 10 = .ok (.idiv, 1) := dk_108 (dk_at dksX37_join_0 10 rfl rfl)
theorem dX37_join_11 : decode cX37_join 11 = .ok (.ireturn, 1) := dk_172 (dk_at dksX37_join_0 11 rfl rfl)
abbrev mX37_join : sd_Y := (yX37_join, cX37_join, 3, some (.int), none)
def fX37_join (G : sd_G) (a0 : Nat) (a1 : Int32) (a2 : Int32) : sd_M Int32 :=
  if a2 = 0 then (
    sd_ret 0)
  else (
    sd_bnd (sd_nz a2) fun _ =>
    sd_ret (a1 / a2))
set_option maxHeartbeats 4000000 in
theorem sX37_join (l : Launch) (G : sd_G) (a0 : Nat) (a1 : Int32) (a2 : Int32) (h : sd_H) (ρ : Int32) (cT : Nat × Nat) (h2 : sd_H) (hf : fX37_join G a0 a1 a2 h = some (ρ, cT, h2)) : sd_Met mX37_join ((l, G), (0, 0), [.ref a0, .int a1, .int a2], (sd_oI ρ, h2), cT) h := by
  refine sd_entry (plainFor_of_name rfl) rfl (Nat.le_of_ble_eq_true rfl) ?_
  show sd_J mX37_join ((l, G), (0, 0), [.ref a0, .int a1, .int a2], (sd_oI ρ, h2), cT) 0 [(0, .ref a0), (1, .int a1), (2, .int a2)] [] h cT
  unfold fX37_join at hf
  refine sj_iload_n 2 dX37_join_0 rfl ?_
  refine sj_ifne 8 hf dX37_join_1 (by decide) (fun g1 hf => ?_) (fun g1 hf => ?_)
  · refine sj_iload_n 1 dX37_join_8 rfl ?_
    refine sj_iload_n 2 dX37_join_9 rfl ?_
    obtain ⟨hz10, hf⟩ := sd_nz_some hf
    refine sj_idiv dX37_join_10 hz10 ?_
    exact sj_iret (o := sd_oI) hf rfl rfl rfl dX37_join_11
  · refine sj_iconst (v := 0) dX37_join_4 (by decide) ?_
    refine sj_goto 11 dX37_join_5 (by decide) ?_
    exact sj_iret (o := sd_oI) hf rfl rfl rfl dX37_join_11
/-! SofaDig$Sign$5.join(II)I -/
abbrev cX38_join : ByteArray := prog_27_method_2_code
def yX38_join : MethodName := ⟨RX38, "join", "(II)I"⟩
def dkwX38_join_0 : List UInt8 := [27, 28, 184, 0, 7, 172]
abbrev dktX38_join_0 : List UInt8 := dkwX38_join_0 ++ []
theorem dksX38_join_0 : cX38_join.data.toList.drop 0 = dktX38_join_0 := by decide +kernel
theorem dX38_join_0 : decode cX38_join 0 = .ok (.iload_n 1, 1) := dk_27 (dk_at dksX38_join_0 0 rfl rfl)
theorem dX38_join_1 : decode cX38_join 1 = .ok (.iload_n 2, 1) := dk_28 (dk_at dksX38_join_0 1 rfl rfl)
theorem dX38_join_2 : decode cX38_join 2 = .ok (.invokestatic 7, 3) := dk_184 0 7 (dk_at dksX38_join_0 2 rfl rfl)
theorem dX38_join_5 : decode cX38_join 5 = .ok (.ireturn, 1) := dk_172 (dk_at dksX38_join_0 5 rfl rfl)
abbrev mX38_join : sd_Y := (yX38_join, cX38_join, 3, some (.int), none)
def fX38_join (G : sd_G) (a0 : Nat) (a1 : Int32) (a2 : Int32) : sd_M Int32 :=
  sd_bnd (fJ4_min G a1 a2) fun r1 =>
  sd_ret r1
set_option maxHeartbeats 4000000 in
theorem sX38_join (l : Launch) (G : sd_G) (a0 : Nat) (a1 : Int32) (a2 : Int32) (h : sd_H) (ρ : Int32) (cT : Nat × Nat) (h2 : sd_H) (hf : fX38_join G a0 a1 a2 h = some (ρ, cT, h2)) : sd_Met mX38_join ((l, G), (1, 21), [.ref a0, .int a1, .int a2], (sd_oI ρ, h2), cT) h := by
  refine sd_entry (plainFor_of_name rfl) rfl (Nat.le_of_ble_eq_true rfl) ?_
  show sd_J mX38_join ((l, G), (1, 21), [.ref a0, .int a1, .int a2], (sd_oI ρ, h2), cT) 0 [(0, .ref a0), (1, .int a1), (2, .int a2)] [] h cT
  unfold fX38_join at hf
  refine sj_iload_n 1 dX38_join_0 rfl ?_
  refine sj_iload_n 2 dX38_join_1 rfl ?_
  refine sj_cI (rest := []) (fun _ _ _ e => sj_runS (n := 2) (rest := []) (sJ4_min l G a1 a2 h _ _ _ e) rfl rfl q2668 q432 q124 q433 (by decide +kernel) rfl ⟨Nat.le_of_ble_eq_true rfl, Nat.le_of_ble_eq_true rfl⟩ rfl (Nat.le_of_ble_eq_true rfl) dX38_join_2) hf (fun r1 h c hf => ?_)
  exact sj_iret (o := sd_oI) hf rfl rfl rfl dX38_join_5
/-! SofaDig$Sign$6.join(II)I -/
abbrev cX39_join : ByteArray := prog_28_method_2_code
def yX39_join : MethodName := ⟨RX39, "join", "(II)I"⟩
def dkwX39_join_0 : List UInt8 := [27, 28, 184, 0, 7, 172]
abbrev dktX39_join_0 : List UInt8 := dkwX39_join_0 ++ []
theorem dksX39_join_0 : cX39_join.data.toList.drop 0 = dktX39_join_0 := by decide +kernel
theorem dX39_join_0 : decode cX39_join 0 = .ok (.iload_n 1, 1) := dk_27 (dk_at dksX39_join_0 0 rfl rfl)
theorem dX39_join_1 : decode cX39_join 1 = .ok (.iload_n 2, 1) := dk_28 (dk_at dksX39_join_0 1 rfl rfl)
theorem dX39_join_2 : decode cX39_join 2 = .ok (.invokestatic 7, 3) := dk_184 0 7 (dk_at dksX39_join_0 2 rfl rfl)
theorem dX39_join_5 : decode cX39_join 5 = .ok (.ireturn, 1) := dk_172 (dk_at dksX39_join_0 5 rfl rfl)
abbrev mX39_join : sd_Y := (yX39_join, cX39_join, 3, some (.int), none)
def fX39_join (G : sd_G) (a0 : Nat) (a1 : Int32) (a2 : Int32) : sd_M Int32 :=
  sd_bnd (fJ4_max G a1 a2) fun r1 =>
  sd_ret r1
set_option maxHeartbeats 4000000 in
theorem sX39_join (l : Launch) (G : sd_G) (a0 : Nat) (a1 : Int32) (a2 : Int32) (h : sd_H) (ρ : Int32) (cT : Nat × Nat) (h2 : sd_H) (hf : fX39_join G a0 a1 a2 h = some (ρ, cT, h2)) : sd_Met mX39_join ((l, G), (1, 21), [.ref a0, .int a1, .int a2], (sd_oI ρ, h2), cT) h := by
  refine sd_entry (plainFor_of_name rfl) rfl (Nat.le_of_ble_eq_true rfl) ?_
  show sd_J mX39_join ((l, G), (1, 21), [.ref a0, .int a1, .int a2], (sd_oI ρ, h2), cT) 0 [(0, .ref a0), (1, .int a1), (2, .int a2)] [] h cT
  unfold fX39_join at hf
  refine sj_iload_n 1 dX39_join_0 rfl ?_
  refine sj_iload_n 2 dX39_join_1 rfl ?_
  refine sj_cI (rest := []) (fun _ _ _ e => sj_runS (n := 2) (rest := []) (sJ4_max l G a1 a2 h _ _ _ e) rfl rfl q2672 q357 q124 q358 (by decide +kernel) rfl ⟨Nat.le_of_ble_eq_true rfl, Nat.le_of_ble_eq_true rfl⟩ rfl (Nat.le_of_ble_eq_true rfl) dX39_join_2) hf (fun r1 h c hf => ?_)
  exact sj_iret (o := sd_oI) hf rfl rfl rfl dX39_join_5
