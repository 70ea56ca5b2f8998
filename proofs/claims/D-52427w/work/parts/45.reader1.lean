set_option maxRecDepth 100000
theorem q134 : (Jvm.Cond.initialized "SofaDig$Reader") ∈ lw_all := lw_g (lw_at lw_m1 19 rfl) rfl
theorem q151 : (Jvm.Cond.initialized "SofaDig$Fault") ∈ lw_all := lw_g (lw_at lw_m1 36 rfl) rfl
theorem q155 : (Jvm.Cond.initialized "SofaDig$Empire") ∈ lw_all := lw_g (lw_at lw_m1 40 rfl) rfl
theorem q160 : (Jvm.Cond.initialized "SofaDig$Find") ∈ lw_all := lw_g (lw_at lw_m1 45 rfl) rfl
theorem q207 : (Jvm.Cond.instantiable "SofaDig$Sofa" (12 : Nat)) ∈ lw_all := lw_g (lw_at lw_m1 92 rfl) rfl
theorem q209 : (Jvm.Cond.instanceMethod ({ cls := "SofaDig$Sofa", name := "<init>", desc := "()V" } : Jvm.MethodName)) ∈ lw_all := lw_g (lw_at lw_m1 94 rfl) rfl
theorem q244 : (Jvm.Cond.fieldLinkNest "SofaDig$Reader" (138 : Nat) "SofaDig$Sofa" "strata" "I" "SofaDig") ∈ lw_tbl := lw_at lw_m1 129 rfl
theorem q247 : (Jvm.Cond.fieldLinkNest "SofaDig$Reader" (130 : Nat) "SofaDig$Sofa" "seats" "I" "SofaDig") ∈ lw_tbl := lw_at lw_m1 132 rfl
theorem q249 : (Jvm.Cond.fieldLinkNest "SofaDig$Reader" (208 : Nat) "SofaDig$Sofa" "stacks" "Ljava/util/ArrayList;" "SofaDig") ∈ lw_tbl := lw_at lw_m1 134 rfl
theorem q253 : (Jvm.Cond.fieldLinkNest "SofaDig$Reader" (185 : Nat) "SofaDig$Sofa" "empires" "Ljava/util/ArrayList;" "SofaDig") ∈ lw_tbl := lw_at lw_m1 138 rfl
theorem q258 : (Jvm.Cond.fieldLinkNest "SofaDig$Reader" (214 : Nat) "SofaDig$Sofa" "finds" "Ljava/util/ArrayList;" "SofaDig") ∈ lw_tbl := lw_at lw_m1 143 rfl
theorem q316 : (Jvm.Cond.fieldLinkNest "SofaDig$Reader" (228 : Nat) "SofaDig$Cushion" "stratum" "I" "SofaDig") ∈ lw_tbl := lw_at lw_m1 201 rfl
theorem q320 : (Jvm.Cond.fieldLinkNest "SofaDig$Reader" (212 : Nat) "SofaDig$Cushion" "find" "I" "SofaDig") ∈ lw_tbl := lw_at lw_m1 205 rfl
theorem q323 : (Jvm.Cond.fieldLinkNest "SofaDig$Reader" (171 : Nat) "SofaDig$Cushion" "hasSpring" "Z" "SofaDig") ∈ lw_tbl := lw_at lw_m1 208 rfl
theorem q503 : (Jvm.Cond.fieldLinkNest "SofaDig$Reader" (62 : Nat) "SofaDig$Token" "sort" "LSofaDig$Sort;" "SofaDig") ∈ lw_tbl := lw_at lw_m2 148 rfl
theorem q507 : (Jvm.Cond.fieldLinkNest "SofaDig$Reader" (87 : Nat) "SofaDig$Token" "text" "Ljava/lang/String;" "SofaDig") ∈ lw_tbl := lw_at lw_m2 152 rfl
theorem q509 : (Jvm.Cond.fieldLinkNest "SofaDig$Reader" (47 : Nat) "SofaDig$Token" "at" "I" "SofaDig") ∈ lw_tbl := lw_at lw_m2 154 rfl
theorem q923 : (Jvm.Cond.code ({ cls := "SofaDig$Reader", name := "<init>", desc := "(Ljava/util/List;)V" } : Jvm.MethodName) prog_18_method_1_code (2 : Nat) (Option.none : Option Jvm.ClassFile.FieldType)) ∈ lw_all := lw_g (lw_at lw_m4 88 rfl) rfl
theorem q924 : (Jvm.Cond.methodLink "SofaDig$Reader" (3 : Nat) ({ cls := "java/lang/Object", name := "<init>", desc := "()V" } : Jvm.MethodName)) ∈ lw_all := lw_g (lw_at lw_m4 89 rfl) rfl
theorem q925 : (Jvm.Cond.classLink "SofaDig$Reader" (9 : Nat) "SofaDig$Sofa") ∈ lw_all := lw_g (lw_at lw_m4 90 rfl) rfl
theorem q926 : (Jvm.Cond.methodLinkNest "SofaDig$Reader" (11 : Nat) ({ cls := "SofaDig$Sofa", name := "<init>", desc := "()V" } : Jvm.MethodName) "SofaDig") ∈ lw_tbl := lw_at lw_m4 91 rfl
theorem q927 : (Jvm.Cond.classLink "SofaDig$Reader" (18 : Nat) "java/util/HashMap") ∈ lw_all := lw_g (lw_at lw_m4 92 rfl) rfl
theorem q928 : (Jvm.Cond.instantiable "java/util/HashMap" (8 : Nat)) ∈ lw_all := lw_g (lw_at lw_m4 93 rfl) rfl
theorem q929 : (Jvm.Cond.methodLink "SofaDig$Reader" (20 : Nat) ({ cls := "java/util/HashMap", name := "<init>", desc := "()V" } : Jvm.MethodName)) ∈ lw_all := lw_g (lw_at lw_m4 94 rfl) rfl
theorem q930 : (Jvm.Cond.instanceMethod ({ cls := "java/util/HashMap", name := "<init>", desc := "()V" } : Jvm.MethodName)) ∈ lw_all := lw_g (lw_at lw_m4 95 rfl) rfl
theorem q959 : (Jvm.Cond.fieldLink "SofaDig$Reader" (25 : Nat) "SofaDig$Reader" "tokens" "Ljava/util/List;") ∈ lw_all := lw_g (lw_at lw_m4 124 rfl) rfl
theorem q960 : (Jvm.Cond.fieldLink "SofaDig$Reader" (29 : Nat) "SofaDig$Reader" "at" "I") ∈ lw_all := lw_g (lw_at lw_m4 125 rfl) rfl
theorem q961 : (Jvm.Cond.fieldLink "SofaDig$Reader" (66 : Nat) "SofaDig$Reader" "depth" "I") ∈ lw_all := lw_g (lw_at lw_m4 126 rfl) rfl
theorem q962 : (Jvm.Cond.fieldLink "SofaDig$Reader" (75 : Nat) "SofaDig$Reader" "isSecond" "Z") ∈ lw_all := lw_g (lw_at lw_m4 127 rfl) rfl
theorem q963 : (Jvm.Cond.fieldLink "SofaDig$Reader" (12 : Nat) "SofaDig$Reader" "sofa" "LSofaDig$Sofa;") ∈ lw_all := lw_g (lw_at lw_m4 128 rfl) rfl
theorem q964 : (Jvm.Cond.fieldLink "SofaDig$Reader" (21 : Nat) "SofaDig$Reader" "empires" "Ljava/util/HashMap;") ∈ lw_all := lw_g (lw_at lw_m4 129 rfl) rfl
theorem q987 : (Jvm.Cond.methodLink "SofaDig$Reader" (55 : Nat) ({ cls := "SofaDig$Reader", name := "takeIf", desc := "(Ljava/lang/String;)Z" } : Jvm.MethodName)) ∈ lw_all := lw_g (lw_at lw_m4 152 rfl) rfl
theorem q989 : (Jvm.Cond.instanceMethod ({ cls := "SofaDig$Reader", name := "takeIf", desc := "(Ljava/lang/String;)Z" } : Jvm.MethodName)) ∈ lw_all := lw_g (lw_at lw_m4 154 rfl) rfl
theorem q990 : (Jvm.Cond.code ({ cls := "SofaDig$Reader", name := "takeIf", desc := "(Ljava/lang/String;)Z" } : Jvm.MethodName) prog_18_method_4_code (3 : Nat) (Option.some Jvm.ClassFile.FieldType.boolean)) ∈ lw_all := lw_g (lw_at lw_m4 155 rfl) rfl
theorem q991 : (Jvm.Cond.methodLink "SofaDig$Reader" (43 : Nat) ({ cls := "SofaDig$Reader", name := "now", desc := "()LSofaDig$Token;" } : Jvm.MethodName)) ∈ lw_all := lw_g (lw_at lw_m4 156 rfl) rfl
theorem q993 : (Jvm.Cond.instanceMethod ({ cls := "SofaDig$Reader", name := "now", desc := "()LSofaDig$Token;" } : Jvm.MethodName)) ∈ lw_all := lw_g (lw_at lw_m4 158 rfl) rfl
theorem q994 : (Jvm.Cond.code ({ cls := "SofaDig$Reader", name := "now", desc := "()LSofaDig$Token;" } : Jvm.MethodName) prog_18_method_2_code (1 : Nat) (Option.some (Jvm.ClassFile.FieldType.object "SofaDig$Token"))) ∈ lw_all := lw_g (lw_at lw_m4 159 rfl) rfl
theorem q996 : (Jvm.Cond.methodLink "SofaDig$Reader" (33 : Nat) ({ cls := "java/util/List", name := "get", desc := "(I)Ljava/lang/Object;" } : Jvm.MethodName)) ∈ lw_all := lw_g (lw_at lw_m4 161 rfl) rfl
theorem q1000 : (Jvm.Cond.selects "java/util/ArrayList" ({ cls := "java/util/List", name := "get", desc := "(I)Ljava/lang/Object;" } : Jvm.MethodName) ({ cls := "java/util/ArrayList", name := "get", desc := "(I)Ljava/lang/Object;" } : Jvm.MethodName)) ∈ lw_all := lw_g (lw_at lw_m4 165 rfl) rfl
theorem q1013 : (Jvm.Cond.classLink "SofaDig$Reader" (39 : Nat) "SofaDig$Token") ∈ lw_all := lw_g (lw_at lw_m4 178 rfl) rfl
theorem q1014 : (Jvm.Cond.methodLink "SofaDig$Reader" (51 : Nat) ({ cls := "SofaDig$Token", name := "is", desc := "(Ljava/lang/String;)Z" } : Jvm.MethodName)) ∈ lw_all := lw_g (lw_at lw_m4 179 rfl) rfl
theorem q1015 : (Jvm.Cond.instanceMethod ({ cls := "SofaDig$Token", name := "is", desc := "(Ljava/lang/String;)Z" } : Jvm.MethodName)) ∈ lw_all := lw_g (lw_at lw_m4 180 rfl) rfl
theorem q1016 : (Jvm.Cond.selects "SofaDig$Token" ({ cls := "SofaDig$Token", name := "is", desc := "(Ljava/lang/String;)Z" } : Jvm.MethodName) ({ cls := "SofaDig$Token", name := "is", desc := "(Ljava/lang/String;)Z" } : Jvm.MethodName)) ∈ lw_all := lw_g (lw_at lw_m4 181 rfl) rfl
theorem q1021 : (Jvm.Cond.methodLink "SofaDig$Reader" (127 : Nat) ({ cls := "SofaDig$Reader", name := "number", desc := "(II)I" } : Jvm.MethodName)) ∈ lw_all := lw_g (lw_at lw_m4 186 rfl) rfl
theorem q1023 : (Jvm.Cond.instanceMethod ({ cls := "SofaDig$Reader", name := "number", desc := "(II)I" } : Jvm.MethodName)) ∈ lw_all := lw_g (lw_at lw_m4 188 rfl) rfl
theorem q1024 : (Jvm.Cond.code ({ cls := "SofaDig$Reader", name := "number", desc := "(II)I" } : Jvm.MethodName) prog_18_method_16_code (4 : Nat) (Option.some Jvm.ClassFile.FieldType.int)) ∈ lw_all := lw_g (lw_at lw_m4 189 rfl) rfl
theorem q1025 : (Jvm.Cond.fieldLink "SofaDig$Reader" (119 : Nat) "SofaDig$Sort" "NUMBER" "LSofaDig$Sort;") ∈ lw_all := lw_g (lw_at lw_m4 190 rfl) rfl
theorem q1026 : (Jvm.Cond.methodLink "SofaDig$Reader" (84 : Nat) ({ cls := "SofaDig$Reader", name := "take", desc := "(LSofaDig$Sort;)LSofaDig$Token;" } : Jvm.MethodName)) ∈ lw_all := lw_g (lw_at lw_m4 191 rfl) rfl
theorem q1028 : (Jvm.Cond.instanceMethod ({ cls := "SofaDig$Reader", name := "take", desc := "(LSofaDig$Sort;)LSofaDig$Token;" } : Jvm.MethodName)) ∈ lw_all := lw_g (lw_at lw_m4 193 rfl) rfl
theorem q1029 : (Jvm.Cond.code ({ cls := "SofaDig$Reader", name := "take", desc := "(LSofaDig$Sort;)LSofaDig$Token;" } : Jvm.MethodName) prog_18_method_6_code (3 : Nat) (Option.some (Jvm.ClassFile.FieldType.object "SofaDig$Token"))) ∈ lw_all := lw_g (lw_at lw_m4 194 rfl) rfl
theorem q1030 : (Jvm.Cond.methodLink "SofaDig$Reader" (58 : Nat) ({ cls := "SofaDig$Reader", name := "wrong", desc := "()LSofaDig$Fault;" } : Jvm.MethodName)) ∈ lw_all := lw_g (lw_at lw_m4 195 rfl) rfl
theorem q1032 : (Jvm.Cond.instanceMethod ({ cls := "SofaDig$Reader", name := "wrong", desc := "()LSofaDig$Fault;" } : Jvm.MethodName)) ∈ lw_all := lw_g (lw_at lw_m4 197 rfl) rfl
theorem q1033 : (Jvm.Cond.code ({ cls := "SofaDig$Reader", name := "wrong", desc := "()LSofaDig$Fault;" } : Jvm.MethodName) prog_18_method_3_code (1 : Nat) (Option.some (Jvm.ClassFile.FieldType.object "SofaDig$Fault"))) ∈ lw_all := lw_g (lw_at lw_m4 198 rfl) rfl
theorem q1034 : (Jvm.Cond.classLink "SofaDig$Reader" (41 : Nat) "SofaDig$Fault") ∈ lw_all := lw_g (lw_at lw_m4 199 rfl) rfl
theorem q1035 : (Jvm.Cond.instantiable "SofaDig$Fault" (8 : Nat)) ∈ lw_all := lw_g (lw_at lw_m4 200 rfl) rfl
theorem q1043 : (Jvm.Cond.methodLink "SofaDig$Reader" (48 : Nat) ({ cls := "SofaDig$Fault", name := "<init>", desc := "(II)V" } : Jvm.MethodName)) ∈ lw_all := lw_g (lw_at lw_m4 208 rfl) rfl
theorem q1044 : (Jvm.Cond.instanceMethod ({ cls := "SofaDig$Fault", name := "<init>", desc := "(II)V" } : Jvm.MethodName)) ∈ lw_all := lw_g (lw_at lw_m4 209 rfl) rfl
theorem q1060 : (Jvm.Cond.methodLink "SofaDig$Reader" (122 : Nat) ({ cls := "SofaDig$Token", name := "number", desc := "()I" } : Jvm.MethodName)) ∈ lw_all := lw_g (lw_at lw_m4 225 rfl) rfl
theorem q1061 : (Jvm.Cond.instanceMethod ({ cls := "SofaDig$Token", name := "number", desc := "()I" } : Jvm.MethodName)) ∈ lw_all := lw_g (lw_at lw_m4 226 rfl) rfl
theorem q1062 : (Jvm.Cond.selects "SofaDig$Token" ({ cls := "SofaDig$Token", name := "number", desc := "()I" } : Jvm.MethodName) ({ cls := "SofaDig$Token", name := "number", desc := "()I" } : Jvm.MethodName)) ∈ lw_all := lw_g (lw_at lw_m4 227 rfl) rfl
theorem q1076 : (Jvm.Cond.methodLink "SofaDig$Reader" (95 : Nat) ({ cls := "SofaDig$Reader", name := "check", desc := "(IZLSofaDig$Token;)V" } : Jvm.MethodName)) ∈ lw_all := lw_g (lw_at lw_m5 1 rfl) rfl
theorem q1078 : (Jvm.Cond.instanceMethod ({ cls := "SofaDig$Reader", name := "check", desc := "(IZLSofaDig$Token;)V" } : Jvm.MethodName)) ∈ lw_all := lw_g (lw_at lw_m5 3 rfl) rfl
theorem q1079 : (Jvm.Cond.code ({ cls := "SofaDig$Reader", name := "check", desc := "(IZLSofaDig$Token;)V" } : Jvm.MethodName) prog_18_method_10_code (4 : Nat) (Option.none : Option Jvm.ClassFile.FieldType)) ∈ lw_all := lw_g (lw_at lw_m5 4 rfl) rfl
theorem q1081 : (Jvm.Cond.methodLink "SofaDig$Reader" (134 : Nat) ({ cls := "SofaDig$Reader", name := "numberOf", desc := "(Ljava/lang/String;II)I" } : Jvm.MethodName)) ∈ lw_all := lw_g (lw_at lw_m5 6 rfl) rfl
theorem q1083 : (Jvm.Cond.instanceMethod ({ cls := "SofaDig$Reader", name := "numberOf", desc := "(Ljava/lang/String;II)I" } : Jvm.MethodName)) ∈ lw_all := lw_g (lw_at lw_m5 8 rfl) rfl
theorem q1084 : (Jvm.Cond.code ({ cls := "SofaDig$Reader", name := "numberOf", desc := "(Ljava/lang/String;II)I" } : Jvm.MethodName) prog_18_method_14_code (5 : Nat) (Option.some Jvm.ClassFile.FieldType.int)) ∈ lw_all := lw_g (lw_at lw_m5 9 rfl) rfl
theorem q1085 : (Jvm.Cond.methodLink "SofaDig$Reader" (69 : Nat) ({ cls := "SofaDig$Reader", name := "take", desc := "(Ljava/lang/String;)V" } : Jvm.MethodName)) ∈ lw_all := lw_g (lw_at lw_m5 10 rfl) rfl
theorem q1087 : (Jvm.Cond.instanceMethod ({ cls := "SofaDig$Reader", name := "take", desc := "(Ljava/lang/String;)V" } : Jvm.MethodName)) ∈ lw_all := lw_g (lw_at lw_m5 12 rfl) rfl
theorem q1088 : (Jvm.Cond.code ({ cls := "SofaDig$Reader", name := "take", desc := "(Ljava/lang/String;)V" } : Jvm.MethodName) prog_18_method_5_code (2 : Nat) (Option.none : Option Jvm.ClassFile.FieldType)) ∈ lw_all := lw_g (lw_at lw_m5 13 rfl) rfl
theorem q1100 : (Jvm.Cond.code ({ cls := "SofaDig$Reader", name := "empire", desc := "()V" } : Jvm.MethodName) prog_18_method_18_code (3 : Nat) (Option.none : Option Jvm.ClassFile.FieldType)) ∈ lw_all := lw_g (lw_at lw_m5 25 rfl) rfl
theorem q1101 : (Jvm.Cond.methodLink "SofaDig$Reader" (179 : Nat) ({ cls := "SofaDig$Reader", name := "name", desc := "(Ljava/util/HashMap;I)Ljava/lang/String;" } : Jvm.MethodName)) ∈ lw_all := lw_g (lw_at lw_m5 26 rfl) rfl
theorem q1103 : (Jvm.Cond.instanceMethod ({ cls := "SofaDig$Reader", name := "name", desc := "(Ljava/util/HashMap;I)Ljava/lang/String;" } : Jvm.MethodName)) ∈ lw_all := lw_g (lw_at lw_m5 28 rfl) rfl
theorem q1104 : (Jvm.Cond.code ({ cls := "SofaDig$Reader", name := "name", desc := "(Ljava/util/HashMap;I)Ljava/lang/String;" } : Jvm.MethodName) prog_18_method_11_code (4 : Nat) (Option.some (Jvm.ClassFile.FieldType.object "java/lang/String"))) ∈ lw_all := lw_g (lw_at lw_m5 29 rfl) rfl
theorem q1105 : (Jvm.Cond.fieldLink "SofaDig$Reader" (79 : Nat) "SofaDig$Sort" "NAME" "LSofaDig$Sort;") ∈ lw_all := lw_g (lw_at lw_m5 30 rfl) rfl
theorem q1106 : (Jvm.Cond.methodLink "SofaDig$Reader" (91 : Nat) ({ cls := "java/util/HashMap", name := "containsKey", desc := "(Ljava/lang/Object;)Z" } : Jvm.MethodName)) ∈ lw_all := lw_g (lw_at lw_m5 31 rfl) rfl
theorem q1107 : (Jvm.Cond.instanceMethod ({ cls := "java/util/HashMap", name := "containsKey", desc := "(Ljava/lang/Object;)Z" } : Jvm.MethodName)) ∈ lw_all := lw_g (lw_at lw_m5 32 rfl) rfl
theorem q1108 : (Jvm.Cond.selects "java/util/HashMap" ({ cls := "java/util/HashMap", name := "containsKey", desc := "(Ljava/lang/Object;)Z" } : Jvm.MethodName) ({ cls := "java/util/HashMap", name := "containsKey", desc := "(Ljava/lang/Object;)Z" } : Jvm.MethodName)) ∈ lw_all := lw_g (lw_at lw_m5 33 rfl) rfl
theorem q1293 : (Jvm.Cond.instanceMethod ({ cls := "java/lang/Integer", name := "intValue", desc := "()I" } : Jvm.MethodName)) ∈ lw_all := lw_g (lw_at lw_m5 218 rfl) rfl
theorem q1294 : (Jvm.Cond.selects "java/lang/Integer" ({ cls := "java/lang/Integer", name := "intValue", desc := "()I" } : Jvm.MethodName) ({ cls := "java/lang/Integer", name := "intValue", desc := "()I" } : Jvm.MethodName)) ∈ lw_all := lw_g (lw_at lw_m5 219 rfl) rfl
theorem q1615 : (Jvm.Cond.methodLink "SofaDig$Reader" (99 : Nat) ({ cls := "java/util/HashMap", name := "size", desc := "()I" } : Jvm.MethodName)) ∈ lw_all := lw_g (lw_at lw_m7 60 rfl) rfl
theorem q1616 : (Jvm.Cond.instanceMethod ({ cls := "java/util/HashMap", name := "size", desc := "()I" } : Jvm.MethodName)) ∈ lw_all := lw_g (lw_at lw_m7 61 rfl) rfl
theorem q1617 : (Jvm.Cond.selects "java/util/HashMap" ({ cls := "java/util/HashMap", name := "size", desc := "()I" } : Jvm.MethodName) ({ cls := "java/util/HashMap", name := "size", desc := "()I" } : Jvm.MethodName)) ∈ lw_all := lw_g (lw_at lw_m7 62 rfl) rfl
theorem q1620 : (Jvm.Cond.classLink "SofaDig$Reader" (188 : Nat) "SofaDig$Empire") ∈ lw_all := lw_g (lw_at lw_m7 65 rfl) rfl
theorem q1621 : (Jvm.Cond.instantiable "SofaDig$Empire" (2 : Nat)) ∈ lw_all := lw_g (lw_at lw_m7 66 rfl) rfl
theorem q1623 : (Jvm.Cond.methodLink "SofaDig$Reader" (192 : Nat) ({ cls := "SofaDig$Empire", name := "<init>", desc := "(II)V" } : Jvm.MethodName)) ∈ lw_all := lw_g (lw_at lw_m7 68 rfl) rfl
theorem q1624 : (Jvm.Cond.instanceMethod ({ cls := "SofaDig$Empire", name := "<init>", desc := "(II)V" } : Jvm.MethodName)) ∈ lw_all := lw_g (lw_at lw_m7 69 rfl) rfl
theorem q1638 : (Jvm.Cond.methodLink "SofaDig$Reader" (193 : Nat) ({ cls := "java/util/ArrayList", name := "add", desc := "(Ljava/lang/Object;)Z" } : Jvm.MethodName)) ∈ lw_all := lw_g (lw_at lw_m7 83 rfl) rfl
theorem q1639 : (Jvm.Cond.methodLink "SofaDig$Reader" (198 : Nat) ({ cls := "SofaDig$Reader", name := "put", desc := "(Ljava/util/HashMap;Ljava/lang/String;)V" } : Jvm.MethodName)) ∈ lw_all := lw_g (lw_at lw_m7 84 rfl) rfl
theorem q1641 : (Jvm.Cond.instanceMethod ({ cls := "SofaDig$Reader", name := "put", desc := "(Ljava/util/HashMap;Ljava/lang/String;)V" } : Jvm.MethodName)) ∈ lw_all := lw_g (lw_at lw_m7 86 rfl) rfl
theorem q1642 : (Jvm.Cond.code ({ cls := "SofaDig$Reader", name := "put", desc := "(Ljava/util/HashMap;Ljava/lang/String;)V" } : Jvm.MethodName) prog_18_method_12_code (3 : Nat) (Option.none : Option Jvm.ClassFile.FieldType)) ∈ lw_all := lw_g (lw_at lw_m7 87 rfl) rfl
theorem q1643 : (Jvm.Cond.methodLink "SofaDig$Reader" (103 : Nat) ({ cls := "java/lang/Integer", name := "valueOf", desc := "(I)Ljava/lang/Integer;" } : Jvm.MethodName)) ∈ lw_all := lw_g (lw_at lw_m7 88 rfl) rfl
theorem q1644 : (Jvm.Cond.static ({ cls := "java/lang/Integer", name := "valueOf", desc := "(I)Ljava/lang/Integer;" } : Jvm.MethodName)) ∈ lw_all := lw_g (lw_at lw_m7 89 rfl) rfl
theorem q1662 : (Jvm.Cond.methodLink "SofaDig$Reader" (109 : Nat) ({ cls := "java/util/HashMap", name := "put", desc := "(Ljava/lang/Object;Ljava/lang/Object;)Ljava/lang/Object;" } : Jvm.MethodName)) ∈ lw_all := lw_g (lw_at lw_m7 107 rfl) rfl
theorem q1663 : (Jvm.Cond.instanceMethod ({ cls := "java/util/HashMap", name := "put", desc := "(Ljava/lang/Object;Ljava/lang/Object;)Ljava/lang/Object;" } : Jvm.MethodName)) ∈ lw_all := lw_g (lw_at lw_m7 108 rfl) rfl
theorem q1664 : (Jvm.Cond.selects "java/util/HashMap" ({ cls := "java/util/HashMap", name := "put", desc := "(Ljava/lang/Object;Ljava/lang/Object;)Ljava/lang/Object;" } : Jvm.MethodName) ({ cls := "java/util/HashMap", name := "put", desc := "(Ljava/lang/Object;Ljava/lang/Object;)Ljava/lang/Object;" } : Jvm.MethodName)) ∈ lw_all := lw_g (lw_at lw_m7 109 rfl) rfl
theorem q1806 : (Jvm.Cond.code ({ cls := "SofaDig$Reader", name := "find", desc := "(LSofaDig$Token;Z)V" } : Jvm.MethodName) prog_18_method_20_code (5 : Nat) (Option.none : Option Jvm.ClassFile.FieldType)) ∈ lw_all := lw_g (lw_at lw_m8 11 rfl) rfl
theorem q1807 : (Jvm.Cond.methodLink "SofaDig$Reader" (217 : Nat) ({ cls := "java/util/ArrayList", name := "size", desc := "()I" } : Jvm.MethodName)) ∈ lw_all := lw_g (lw_at lw_m8 12 rfl) rfl
theorem q1808 : (Jvm.Cond.methodLink "SofaDig$Reader" (167 : Nat) ({ cls := "SofaDig$Reader", name := "place", desc := "(Z)LSofaDig$Cushion;" } : Jvm.MethodName)) ∈ lw_all := lw_g (lw_at lw_m8 13 rfl) rfl
theorem q1810 : (Jvm.Cond.instanceMethod ({ cls := "SofaDig$Reader", name := "place", desc := "(Z)LSofaDig$Cushion;" } : Jvm.MethodName)) ∈ lw_all := lw_g (lw_at lw_m8 15 rfl) rfl
theorem q1811 : (Jvm.Cond.code ({ cls := "SofaDig$Reader", name := "place", desc := "(Z)LSofaDig$Cushion;" } : Jvm.MethodName) prog_18_method_19_code (6 : Nat) (Option.some (Jvm.ClassFile.FieldType.object "SofaDig$Cushion"))) ∈ lw_all := lw_g (lw_at lw_m8 16 rfl) rfl
theorem q1814 : (Jvm.Cond.classLink "SofaDig$Reader" (172 : Nat) "SofaDig$Cushion") ∈ lw_all := lw_g (lw_at lw_m8 19 rfl) rfl
theorem q1815 : (Jvm.Cond.methodLink "SofaDig$Reader" (205 : Nat) ({ cls := "SofaDig$Cushion", name := "<init>", desc := "(I)V" } : Jvm.MethodName)) ∈ lw_all := lw_g (lw_at lw_m8 20 rfl) rfl
theorem q1816 : (Jvm.Cond.methodLink "SofaDig$Reader" (211 : Nat) ({ cls := "java/util/ArrayList", name := "get", desc := "(I)Ljava/lang/Object;" } : Jvm.MethodName)) ∈ lw_all := lw_g (lw_at lw_m8 21 rfl) rfl
theorem q1817 : (Jvm.Cond.classLink "SofaDig$Reader" (194 : Nat) "java/util/ArrayList") ∈ lw_all := lw_g (lw_at lw_m8 22 rfl) rfl
theorem q1820 : (Jvm.Cond.methodLink "SofaDig$Reader" (222 : Nat) ({ cls := "SofaDig$Reader", name := "known", desc := "(Ljava/util/HashMap;)I" } : Jvm.MethodName)) ∈ lw_all := lw_g (lw_at lw_m8 25 rfl) rfl
theorem q1822 : (Jvm.Cond.instanceMethod ({ cls := "SofaDig$Reader", name := "known", desc := "(Ljava/util/HashMap;)I" } : Jvm.MethodName)) ∈ lw_all := lw_g (lw_at lw_m8 27 rfl) rfl
theorem q1823 : (Jvm.Cond.code ({ cls := "SofaDig$Reader", name := "known", desc := "(Ljava/util/HashMap;)I" } : Jvm.MethodName) prog_18_method_13_code (3 : Nat) (Option.some Jvm.ClassFile.FieldType.int)) ∈ lw_all := lw_g (lw_at lw_m8 28 rfl) rfl
theorem q1824 : (Jvm.Cond.methodLink "SofaDig$Reader" (113 : Nat) ({ cls := "java/util/HashMap", name := "get", desc := "(Ljava/lang/Object;)Ljava/lang/Object;" } : Jvm.MethodName)) ∈ lw_all := lw_g (lw_at lw_m8 29 rfl) rfl
theorem q1825 : (Jvm.Cond.instanceMethod ({ cls := "java/util/HashMap", name := "get", desc := "(Ljava/lang/Object;)Ljava/lang/Object;" } : Jvm.MethodName)) ∈ lw_all := lw_g (lw_at lw_m8 30 rfl) rfl
theorem q1826 : (Jvm.Cond.selects "java/util/HashMap" ({ cls := "java/util/HashMap", name := "get", desc := "(Ljava/lang/Object;)Ljava/lang/Object;" } : Jvm.MethodName) ({ cls := "java/util/HashMap", name := "get", desc := "(Ljava/lang/Object;)Ljava/lang/Object;" } : Jvm.MethodName)) ∈ lw_all := lw_g (lw_at lw_m8 31 rfl) rfl
theorem q1828 : (Jvm.Cond.classLink "SofaDig$Reader" (104 : Nat) "java/lang/Integer") ∈ lw_all := lw_g (lw_at lw_m8 33 rfl) rfl
theorem q1829 : (Jvm.Cond.methodLink "SofaDig$Reader" (116 : Nat) ({ cls := "java/lang/Integer", name := "intValue", desc := "()I" } : Jvm.MethodName)) ∈ lw_all := lw_g (lw_at lw_m8 34 rfl) rfl
theorem q1830 : (Jvm.Cond.classLink "SofaDig$Reader" (226 : Nat) "SofaDig$Find") ∈ lw_all := lw_g (lw_at lw_m8 35 rfl) rfl
theorem q1831 : (Jvm.Cond.instantiable "SofaDig$Find" (3 : Nat)) ∈ lw_all := lw_g (lw_at lw_m8 36 rfl) rfl
theorem q1832 : (Jvm.Cond.methodLink "SofaDig$Reader" (231 : Nat) ({ cls := "SofaDig$Find", name := "<init>", desc := "(ZII)V" } : Jvm.MethodName)) ∈ lw_all := lw_g (lw_at lw_m8 37 rfl) rfl
theorem q1833 : (Jvm.Cond.instanceMethod ({ cls := "SofaDig$Find", name := "<init>", desc := "(ZII)V" } : Jvm.MethodName)) ∈ lw_all := lw_g (lw_at lw_m8 38 rfl) rfl
theorem q1861 : (Jvm.Cond.code ({ cls := "SofaDig$Reader", name := "craft", desc := "()LSofaDig$Craft;" } : Jvm.MethodName) prog_18_method_22_code (5 : Nat) (Option.some (Jvm.ClassFile.FieldType.object "SofaDig$Craft"))) ∈ lw_all := lw_g (lw_at lw_m8 66 rfl) rfl
theorem q1862 : (Jvm.Cond.fieldLinkNest "SofaDig$Reader" (261 : Nat) "SofaDig$Craft" "ALL" "[LSofaDig$Craft;" "SofaDig") ∈ lw_tbl := lw_at lw_m8 67 rfl
theorem q1896 : (Jvm.Cond.code ({ cls := "SofaDig$Reader", name := "which", desc := "(LSofaDig$Kind;)I" } : Jvm.MethodName) prog_18_method_28_code (2 : Nat) (Option.some Jvm.ClassFile.FieldType.int)) ∈ lw_all := lw_g (lw_at lw_m8 101 rfl) rfl
theorem q1897 : (Jvm.Cond.fieldLink "SofaDig$Reader" (371 : Nat) "SofaDig$Kind" "NOTHING" "LSofaDig$Kind;") ∈ lw_all := lw_g (lw_at lw_m8 102 rfl) rfl
theorem q1915 : (Jvm.Cond.code ({ cls := "SofaDig$Reader", name := "deeper", desc := "(Ljava/lang/String;)V" } : Jvm.MethodName) prog_18_method_7_code (2 : Nat) (Option.none : Option Jvm.ClassFile.FieldType)) ∈ lw_all := lw_g (lw_at lw_m8 120 rfl) rfl
theorem q1920 : (Jvm.Cond.code ({ cls := "SofaDig$Reader", name := "close", desc := "(Ljava/lang/String;)V" } : Jvm.MethodName) prog_18_method_8_code (2 : Nat) (Option.none : Option Jvm.ClassFile.FieldType)) ∈ lw_all := lw_g (lw_at lw_m8 125 rfl) rfl
theorem q3521 : (Jvm.Cond.fieldLinkNest "SofaDig$Reader" (267 : Nat) "SofaDig$Craft" "word" "Ljava/lang/String;" "SofaDig") ∈ lw_tbl := lw_at lw_m15 46 rfl
/-! SofaDig$Reader.<init>(Ljava/util/List;)V -/
abbrev cX7_init : ByteArray := prog_18_method_1_code
def yX7_init : MethodName := ⟨RX7, "<init>", "(Ljava/util/List;)V"⟩
def dkwX7_init_1 : List UInt8 := [181, 0, 21, 42, 43, 181, 0, 25, 177]
abbrev dktX7_init_1 : List UInt8 := dkwX7_init_1 ++ []
def dkwX7_init_0 : List UInt8 := [42, 183, 0, 3, 42, 187, 0, 9, 89, 183, 0, 11, 181, 0, 12, 42, 187, 0, 18, 89, 183, 0, 20]
abbrev dktX7_init_0 : List UInt8 := dkwX7_init_0 ++ dktX7_init_1
theorem dksX7_init_0 : cX7_init.data.toList.drop 0 = dktX7_init_0 := by decide +kernel
theorem dksX7_init_1 : cX7_init.data.toList.drop 23 = dktX7_init_1 := dk_seg dksX7_init_0 23 rfl rfl
theorem dX7_init_0 : decode cX7_init 0 = .ok (.aload_n 0, 1) := dk_42 (dk_at dksX7_init_0 0 rfl rfl)
theorem dX7_init_1 : decode cX7_init 1 = .ok (.invokespecial 3, 3) := dk_183 0 3 (dk_at dksX7_init_0 1 rfl rfl)
theorem dX7_init_4 : decode cX7_init 4 = .ok (.aload_n 0, 1) := dk_42 (dk_at dksX7_init_0 4 rfl rfl)
theorem dX7_init_5 : decode cX7_init 5 = .ok (.new 9, 3) := dk_187 0 9 (dk_at dksX7_init_0 5 rfl rfl)
theorem dX7_init_8 : decode cX7_init 8 = .ok (.dup, 1) := dk_89 (dk_at dksX7_init_0 8 rfl rfl)
theorem dX7_init_9 : decode cX7_init 9 = .ok (.invokespecial 11, 3) := dk_183 0 11 (dk_at dksX7_init_0 9 rfl rfl)
theorem dX7_init_12 : decode cX7_init 12 = .ok (.putfield 12, 3) := dk_181 0 12 (dk_at dksX7_init_0 12 rfl rfl)
theorem dX7_init_15 : decode cX7_init 15 = .ok (.aload_n 0, 1) := dk_42 (dk_at dksX7_init_0 15 rfl rfl)
theorem dX7_init_16 : decode cX7_init 16 = .ok (.new 18, 3) := dk_187 0 18 (dk_at dksX7_init_0 16 rfl rfl)
theorem dX7_init_19 : decode cX7_init 19 = .ok (.dup, 1) := dk_89 (dk_at dksX7_init_0 19 rfl rfl)
theorem dX7_init_20 : decode cX7_init 20 = .ok (.invokespecial 20, 3) := dk_183 0 20 (dk_at dksX7_init_0 20 rfl rfl)
theorem dX7_init_23 : decode cX7_init 23 = .ok (.putfield 21, 3) := dk_181 0 21 (dk_at dksX7_init_1 0 rfl rfl)
theorem dX7_init_26 : decode cX7_init 26 = .ok (.aload_n 0, 1) := dk_42 (dk_at dksX7_init_1 3 rfl rfl)
theorem dX7_init_27 : decode cX7_init 27 = .ok (.aload_n 1, 1) := dk_43 (dk_at dksX7_init_1 4 rfl rfl)
theorem dX7_init_28 : decode cX7_init 28 = .ok (.putfield 25, 3) := dk_181 0 25 (dk_at dksX7_init_1 5 rfl rfl)
theorem dX7_init_31 : decode cX7_init 31 = .ok (.return_, 1) := dk_177 (dk_at dksX7_init_1 8 rfl rfl)
theorem fnX7_9 : sd_Fn "SofaDig$Reader" 9 2 12 [.int 0, .int 0, .null, .null, .null, .null, .null, .int 0, .int 0, .int 0, .int 0, .int 0] := ⟨(RX3, TX3, 12), tyX3, rfl, rfl, in_X3, q925, q207, q118, tyX3_ok, fun j hj => by revert j; decide⟩
theorem fpX7_12_6 (n d : String) : sd_Fp ⟨"SofaDig$Reader", n, d⟩ 12 6 4 (.object "SofaDig$Sofa") := ⟨(RX7, TX7, 6), "SofaDig$Reader", tyX7, rfl, by decide, rfl, in_X7, Or.inl rfl, tyX7_ok, nmX7, rfl, Or.inl ⟨rfl, Or.inl q963⟩⟩
theorem fnX7_18 : sd_Fn "SofaDig$Reader" 18 43 8 [.null, .null, .null, .null, .int 0, .int 0, .int 0, .float 0] := ⟨(RJ22, TJ22, 8), tyJ22, rfl, rfl, in_J22, q927, q928, q149, tyJ22_ok, fun j hj => by revert j; decide⟩
theorem fpX7_init_21 : sd_Fp yX7_init 21 6 5 (.object "java/util/HashMap") := ⟨(RX7, TX7, 6), "SofaDig$Reader", tyX7, rfl, by decide, rfl, in_X7, Or.inl rfl, tyX7_ok, nmX7, rfl, Or.inr ⟨rfl, rfl, rfl, q964⟩⟩
theorem fpX7_init_25 : sd_Fp yX7_init 25 6 0 (.object "java/util/List") := ⟨(RX7, TX7, 6), "SofaDig$Reader", tyX7, rfl, by decide, rfl, in_X7, Or.inl rfl, tyX7_ok, nmX7, rfl, Or.inr ⟨rfl, rfl, rfl, q959⟩⟩
abbrev mX7_init : sd_Y := (yX7_init, cX7_init, 2, none, none)
def fX7_init (G : sd_G) (a0 : Nat) (a1 : Nat) : sd_M Unit :=
  sd_bnd (sd_new 2 12 [.int 0, .int 0, .null, .null, .null, .null, .null, .int 0, .int 0, .int 0, .int 0, .int 0]) fun o1 =>
  sd_bnd (fX3_init G o1) fun _ =>
  sd_bnd (sd_put 6 4 (.object "SofaDig$Sofa") a0 (.ref o1)) fun _ =>
  sd_bnd (sd_new 43 8 [.null, .null, .null, .null, .int 0, .int 0, .int 0, .float 0]) fun o2 =>
  sd_bnd (fJ22_init G o2) fun _ =>
  sd_bnd (sd_put 6 5 (.object "java/util/HashMap") a0 (.ref o2)) fun _ =>
  sd_bnd (sd_put 6 0 (.object "java/util/List") a0 (.ref a1)) fun _ =>
  sd_ret ()
set_option maxHeartbeats 4000000 in
theorem sX7_init (l : Launch) (G : sd_G) (a0 : Nat) (a1 : Nat) (h : sd_H) (ρ : Unit) (cT : Nat × Nat) (h2 : sd_H) (hf : fX7_init G a0 a1 h = some (ρ, cT, h2)) : sd_Met mX7_init ((l, G), (5, 92), [.ref a0, .ref a1], (sd_oV ρ, h2), cT) h := by
  refine sd_entry (plainFor_of_name rfl) rfl (Nat.le_of_ble_eq_true rfl) ?_
  show sd_J mX7_init ((l, G), (5, 92), [.ref a0, .ref a1], (sd_oV ρ, h2), cT) 0 [(0, .ref a0), (1, .ref a1)] [] h cT
  unfold fX7_init at hf
  refine sj_aload_n 0 dX7_init_0 rfl ?_
  refine sj_objInit q924 q188 q189 (Nat.le_of_ble_eq_true rfl) (Nat.le_of_ble_eq_true rfl) dX7_init_1 ?_
  refine sj_aload_n 0 dX7_init_4 rfl ?_
  refine sj_new fnX7_9 hf dX7_init_5 (fun o1 h c hf => ?_)
  refine sj_dup dX7_init_8 rfl ?_
  refine sj_cV (rest := [.ref o1, .ref a0]) (fun _ _ _ e => sj_runIN (n := 0) (a := o1) (As := []) (rest := [.ref o1, .ref a0]) (sX3_init l G o1 h _ _ _ e) rfl rfl q926 q209 q118 q210 rfl (by decide +kernel) rfl rfl (fun _ z => by cases z) ⟨Nat.le_of_ble_eq_true rfl, Nat.le_of_ble_eq_true rfl⟩ rfl (Nat.le_of_ble_eq_true rfl) dX7_init_9) hf (fun h c hf => ?_)
  refine sj_put (fpX7_12_6 _ _) hf dX7_init_12 (fun h hf => ?_)
  refine sj_aload_n 0 dX7_init_15 rfl ?_
  refine sj_new fnX7_18 hf dX7_init_16 (fun o2 h c hf => ?_)
  refine sj_dup dX7_init_19 rfl ?_
  refine sj_cV (rest := [.ref o2, .ref a0]) (fun _ _ _ e => sj_runI (n := 0) (a := o2) (As := []) (rest := [.ref o2, .ref a0]) (sJ22_init l G o2 h _ _ _ e) rfl rfl q929 q930 q149 q931 rfl (by decide +kernel) rfl rfl (fun _ z => by cases z) ⟨Nat.le_of_ble_eq_true rfl, Nat.le_of_ble_eq_true rfl⟩ rfl (Nat.le_of_ble_eq_true rfl) dX7_init_20) hf (fun h c hf => ?_)
  refine sj_put fpX7_init_21 hf dX7_init_23 (fun h hf => ?_)
  refine sj_aload_n 0 dX7_init_26 rfl ?_
  refine sj_aload_n 1 dX7_init_27 rfl ?_
  refine sj_put fpX7_init_25 hf dX7_init_28 (fun h hf => ?_)
  exact sj_vret (o := sd_oV) hf rfl rfl rfl dX7_init_31
/-! SofaDig$Reader.now()LSofaDig$Token; -/
abbrev cX7_now : ByteArray := prog_18_method_2_code
def yX7_now : MethodName := ⟨RX7, "now", "()LSofaDig$Token;"⟩
def dkwX7_now_0 : List UInt8 := [42, 180, 0, 25, 42, 180, 0, 29, 185, 0, 33, 2, 0, 192, 0, 39, 176]
abbrev dktX7_now_0 : List UInt8 := dkwX7_now_0 ++ []
theorem dksX7_now_0 : cX7_now.data.toList.drop 0 = dktX7_now_0 := by decide +kernel
theorem dX7_now_0 : decode cX7_now 0 = .ok (.aload_n 0, 1) := dk_42 (dk_at dksX7_now_0 0 rfl rfl)
theorem dX7_now_1 : decode cX7_now 1 = .ok (.getfield 25, 3) := dk_180 0 25 (dk_at dksX7_now_0 1 rfl rfl)
theorem dX7_now_4 : decode cX7_now 4 = .ok (.aload_n 0, 1) := dk_42 (dk_at dksX7_now_0 4 rfl rfl)
theorem dX7_now_5 : decode cX7_now 5 = .ok (.getfield 29, 3) := dk_180 0 29 (dk_at dksX7_now_0 5 rfl rfl)
theorem dX7_now_8 : decode cX7_now 8 = .ok (.invokeinterface 33 2, 5) := by decide +kernel
theorem dX7_now_13 : decode cX7_now 13 = .ok (.checkcast 39, 3) := dk_192 0 39 (dk_at dksX7_now_0 13 rfl rfl)
theorem dX7_now_16 : decode cX7_now 16 = .ok (.areturn, 1) := dk_176 (dk_at dksX7_now_0 16 rfl rfl)
theorem fdX7_25_6 : sd_Fd "SofaDig$Reader" 25 6 0 := ⟨(RX7, TX7, 6), "SofaDig$Reader", rfl, by decide, rfl, in_X7, Or.inl rfl, Or.inl q959⟩
theorem fdX7_29_6 : sd_Fd "SofaDig$Reader" 29 6 1 := ⟨(RX7, TX7, 6), "SofaDig$Reader", rfl, by decide, rfl, in_X7, Or.inl rfl, Or.inl q960⟩
theorem fc_SofaDig_Token : sd_Fc [8] "SofaDig$Token" := fun ci r hm hc => by
  simp only [List.mem_cons, List.not_mem_nil, or_false] at hm
  rcases hm with rfl
  · cases hc; exact Or.inl rfl
abbrev mX7_now : sd_Y := (yX7_now, cX7_now, 1, some (.object "SofaDig$Token"), none)
def fX7_now (G : sd_G) (a0 : Nat) : sd_M Nat :=
  sd_bnd (sd_getR G 6 0 a0) fun v1 =>
  sd_bnd (sd_getI G 6 1 a0) fun v2 =>
  sd_bnd (sd_isC G 41 v1) fun _ =>
  sd_bnd (fJ2_get G v1 v2) fun r3 =>
  sd_bnd (sd_cast G [8] r3) fun _ =>
  sd_ret r3
set_option maxHeartbeats 4000000 in
theorem sX7_now (l : Launch) (G : sd_G) (a0 : Nat) (h : sd_H) (ρ : Nat) (cT : Nat × Nat) (h2 : sd_H) (hf : fX7_now G a0 h = some (ρ, cT, h2)) : sd_Met mX7_now ((l, G), (3, 64), [.ref a0], (sd_oR ρ, h2), cT) h := by
  refine sd_entry (plainFor_of_name rfl) rfl (Nat.le_of_ble_eq_true rfl) ?_
  show sd_J mX7_now ((l, G), (3, 64), [.ref a0], (sd_oR ρ, h2), cT) 0 [(0, .ref a0)] [] h cT
  unfold fX7_now at hf
  refine sj_aload_n 0 dX7_now_0 rfl ?_
  refine sj_getR fdX7_25_6 hf dX7_now_1 (fun v1 hf => ?_)
  refine sj_aload_n 0 dX7_now_4 rfl ?_
  refine sj_getI fdX7_29_6 hf dX7_now_5 (fun v2 hf => ?_)
  obtain ⟨fs8, he8, hf⟩ := sd_isC_some hf
  refine sj_cR (rest := []) (fun _ _ _ e => sj_runF (n := 1) 6 (As := [.int v2]) (rest := []) (sJ2_get l G v1 v2 h _ _ _ e) he8 rfl rfl rfl rfl rfl q996 q1000 q1002 q121 q1004 (by decide +kernel) rfl rfl (fun _ z => by cases z) ⟨Nat.le_of_ble_eq_true rfl, Nat.le_of_ble_eq_true rfl⟩ rfl (Nat.le_of_ble_eq_true rfl) dX7_now_8) hf (fun r3 h c hf => ?_)
  obtain ⟨ci13, fs13, he13, hm13, hf⟩ := sd_cast_some hf
  refine sj_cast he13 hm13 fc_SofaDig_Token q1013 dX7_now_13 ?_
  exact sj_aret (o := sd_oR) hf rfl rfl rfl (Or.inl ⟨_, rfl⟩) dX7_now_16
/-! SofaDig$Reader.takeIf(Ljava/lang/String;)Z -/
abbrev cX7_takeIf : ByteArray := prog_18_method_4_code
def yX7_takeIf : MethodName := ⟨RX7, "takeIf", "(Ljava/lang/String;)Z"⟩
def dkwX7_takeIf_1 : List UInt8 := [172]
abbrev dktX7_takeIf_1 : List UInt8 := dkwX7_takeIf_1 ++ []
def dkwX7_takeIf_0 : List UInt8 := [42, 182, 0, 43, 43, 182, 0, 51, 61, 28, 153, 0, 13, 42, 89, 180, 0, 29, 4, 96, 181, 0, 29, 28]
abbrev dktX7_takeIf_0 : List UInt8 := dkwX7_takeIf_0 ++ dktX7_takeIf_1
theorem dksX7_takeIf_0 : cX7_takeIf.data.toList.drop 0 = dktX7_takeIf_0 := by decide +kernel
theorem dksX7_takeIf_1 : cX7_takeIf.data.toList.drop 24 = dktX7_takeIf_1 := dk_seg dksX7_takeIf_0 24 rfl rfl
theorem dX7_takeIf_0 : decode cX7_takeIf 0 = .ok (.aload_n 0, 1) := dk_42 (dk_at dksX7_takeIf_0 0 rfl rfl)
theorem dX7_takeIf_1 : decode cX7_takeIf 1 = .ok (.invokevirtual 43, 3) := dk_182 0 43 (dk_at dksX7_takeIf_0 1 rfl rfl)
theorem dX7_takeIf_4 : decode cX7_takeIf 4 = .ok (.aload_n 1, 1) := dk_43 (dk_at dksX7_takeIf_0 4 rfl rfl)
theorem dX7_takeIf_5 : decode cX7_takeIf 5 = .ok (.invokevirtual 51, 3) := dk_182 0 51 (dk_at dksX7_takeIf_0 5 rfl rfl)
theorem dX7_takeIf_8 : decode cX7_takeIf 8 = .ok (.istore_n 2, 1) := dk_61 (dk_at dksX7_takeIf_0 8 rfl rfl)
theorem dX7_takeIf_9 : decode cX7_takeIf 9 = .ok (.iload_n 2, 1) := dk_28 (dk_at dksX7_takeIf_0 9 rfl rfl)
theorem dX7_takeIf_10 : decode cX7_takeIf 10 = .ok (.ifCond .eq 13, 3) := dk_153 0 13 (dk_at dksX7_takeIf_0 10 rfl rfl)
theorem dX7_takeIf_13 : decode cX7_takeIf 13 = .ok (.aload_n 0, 1) := dk_42 (dk_at dksX7_takeIf_0 13 rfl rfl)
theorem dX7_takeIf_14 : decode cX7_takeIf 14 = .ok (.dup, 1) := dk_89 (dk_at dksX7_takeIf_0 14 rfl rfl)
theorem dX7_takeIf_15 : decode cX7_takeIf 15 = .ok (.getfield 29, 3) := dk_180 0 29 (dk_at dksX7_takeIf_0 15 rfl rfl)
theorem dX7_takeIf_18 : decode cX7_takeIf 18 = .ok (.iconst 1, 1) := dk_4 (dk_at dksX7_takeIf_0 18 rfl rfl)
theorem dX7_takeIf_19 : decode cX7_takeIf 19 = .ok (.iadd, 1) := dk_96 (dk_at dksX7_takeIf_0 19 rfl rfl)
theorem dX7_takeIf_20 : decode cX7_takeIf 20 = .ok (.putfield 29, 3) := dk_181 0 29 (dk_at dksX7_takeIf_0 20 rfl rfl)
theorem dX7_takeIf_23 : decode cX7_takeIf 23 = .ok (.iload_n 2, 1) := dk_28 (dk_at dksX7_takeIf_0 23 rfl rfl)
theorem dX7_takeIf_24 : decode cX7_takeIf 24 = .ok (.ireturn, 1) := dk_172 (dk_at dksX7_takeIf_1 0 rfl rfl)
theorem fpX7_29_6 (n d : String) : sd_Fp ⟨"SofaDig$Reader", n, d⟩ 29 6 1 .int := ⟨(RX7, TX7, 6), "SofaDig$Reader", tyX7, rfl, by decide, rfl, in_X7, Or.inl rfl, tyX7_ok, nmX7, rfl, Or.inl ⟨rfl, Or.inl q960⟩⟩
abbrev mX7_takeIf : sd_Y := (yX7_takeIf, cX7_takeIf, 3, some (.boolean), none)
def fX7_takeIf (G : sd_G) (a0 : Nat) (a1 : Nat) : sd_M Int32 :=
  sd_bnd (sd_isC G 6 a0) fun _ =>
  sd_bnd (fX7_now G a0) fun r1 =>
  sd_bnd (sd_isC G 8 r1) fun _ =>
  sd_bnd (fX9_is G r1 a1) fun r2 =>
  if r2 = 0 then (
    sd_retN .boolean r2)
  else (
    sd_bnd (sd_getI G 6 1 a0) fun v3 =>
    sd_bnd (sd_put 6 1 .int a0 (.int (v3 + 1))) fun _ =>
    sd_retN .boolean r2)
set_option maxHeartbeats 4000000 in
theorem sX7_takeIf (l : Launch) (G : sd_G) (a0 : Nat) (a1 : Nat) (h : sd_H) (ρ : Int32) (cT : Nat × Nat) (h2 : sd_H) (hf : fX7_takeIf G a0 a1 h = some (ρ, cT, h2)) : sd_Met mX7_takeIf ((l, G), (4, 84), [.ref a0, .ref a1], (sd_oI ρ, h2), cT) h := by
  refine sd_entry (plainFor_of_name rfl) rfl (Nat.le_of_ble_eq_true rfl) ?_
  show sd_J mX7_takeIf ((l, G), (4, 84), [.ref a0, .ref a1], (sd_oI ρ, h2), cT) 0 [(0, .ref a0), (1, .ref a1)] [] h cT
  unfold fX7_takeIf at hf
  refine sj_aload_n 0 dX7_takeIf_0 rfl ?_
  obtain ⟨fs1, he1, hf⟩ := sd_isC_some hf
  refine sj_cR (rest := []) (fun _ _ _ e => sj_runV (n := 0) (As := []) (rest := []) (sX7_now l G a0 h _ _ _ e) he1 rfl rfl rfl rfl q991 q993 qs7 q134 q994 (by decide +kernel) rfl rfl ⟨Nat.le_of_ble_eq_true rfl, Nat.le_of_ble_eq_true rfl⟩ rfl (Nat.le_of_ble_eq_true rfl) dX7_takeIf_1) hf (fun r1 h c hf => ?_)
  refine sj_aload_n 1 dX7_takeIf_4 rfl ?_
  obtain ⟨fs5, he5, hf⟩ := sd_isC_some hf
  refine sj_cI (rest := []) (fun _ _ _ e => sj_runV (n := 1) (As := [.ref a1]) (rest := []) (sX9_is l G r1 a1 h _ _ _ e) he5 rfl rfl rfl rfl q1014 q1015 q1016 q136 q1017 (by decide +kernel) rfl rfl ⟨Nat.le_of_ble_eq_true rfl, Nat.le_of_ble_eq_true rfl⟩ rfl (Nat.le_of_ble_eq_true rfl) dX7_takeIf_5) hf (fun r2 h c hf => ?_)
  refine sj_istore_n [(2, .int r2), (0, .ref a0), (1, .ref a1)] dX7_takeIf_8 (by decide) rfl ?_
  refine sj_iload_n 0 dX7_takeIf_9 rfl ?_
  refine sj_ifeq 23 hf dX7_takeIf_10 (by decide) (fun g10 hf => ?_) (fun g10 hf => ?_)
  · refine sj_iload_n 0 dX7_takeIf_23 rfl ?_
    exact sj_zret hf rfl rfl dX7_takeIf_24
  · refine sj_aload_n 1 dX7_takeIf_13 rfl ?_
    refine sj_dup dX7_takeIf_14 rfl ?_
    refine sj_getI fdX7_29_6 hf dX7_takeIf_15 (fun v3 hf => ?_)
    refine sj_iconst (v := 1) dX7_takeIf_18 (by decide) ?_
    refine sj_iadd dX7_takeIf_19 ?_
    refine sj_put (fpX7_29_6 _ _) hf dX7_takeIf_20 (fun h hf => ?_)
    refine sj_iload_n 0 dX7_takeIf_23 rfl ?_
    exact sj_zret hf rfl rfl dX7_takeIf_24
/-! SofaDig$Reader.wrong()LSofaDig$Fault; -/
abbrev cX7_wrong : ByteArray := prog_18_method_3_code
def yX7_wrong : MethodName := ⟨RX7, "wrong", "()LSofaDig$Fault;"⟩
def dkwX7_wrong_0 : List UInt8 := [187, 0, 41, 89, 4, 42, 182, 0, 43, 180, 0, 47, 183, 0, 48, 176]
abbrev dktX7_wrong_0 : List UInt8 := dkwX7_wrong_0 ++ []
theorem dksX7_wrong_0 : cX7_wrong.data.toList.drop 0 = dktX7_wrong_0 := by decide +kernel
theorem dX7_wrong_0 : decode cX7_wrong 0 = .ok (.new 41, 3) := dk_187 0 41 (dk_at dksX7_wrong_0 0 rfl rfl)
theorem dX7_wrong_3 : decode cX7_wrong 3 = .ok (.dup, 1) := dk_89 (dk_at dksX7_wrong_0 3 rfl rfl)
theorem dX7_wrong_4 : decode cX7_wrong 4 = .ok (.iconst 1, 1) := dk_4 (dk_at dksX7_wrong_0 4 rfl rfl)
theorem dX7_wrong_5 : decode cX7_wrong 5 = .ok (.aload_n 0, 1) := dk_42 (dk_at dksX7_wrong_0 5 rfl rfl)
theorem dX7_wrong_6 : decode cX7_wrong 6 = .ok (.invokevirtual 43, 3) := dk_182 0 43 (dk_at dksX7_wrong_0 6 rfl rfl)
theorem dX7_wrong_9 : decode cX7_wrong 9 = .ok (.getfield 47, 3) := dk_180 0 47 (dk_at dksX7_wrong_0 9 rfl rfl)
theorem dX7_wrong_12 : decode cX7_wrong 12 = .ok (.invokespecial 48, 3) := dk_183 0 48 (dk_at dksX7_wrong_0 12 rfl rfl)
theorem dX7_wrong_15 : decode cX7_wrong 15 = .ok (.areturn, 1) := dk_176 (dk_at dksX7_wrong_0 15 rfl rfl)
theorem fnX7_41 : sd_Fn "SofaDig$Reader" 41 51 8 [.null, .null, .null, .null, .int 0, .int 0] := ⟨(RX10, TZ2, 6), tyZ2, rfl, rfl, in_Z2, q1034, q1035, q151, tyZ2_ok, fun j hj => by revert j; decide⟩
theorem fdX7_47_8 : sd_Fd "SofaDig$Reader" 47 8 2 := ⟨(RX9, TX9, 3), "SofaDig$Token", rfl, by decide, rfl, in_X9, Or.inl rfl, Or.inr ⟨_, q509⟩⟩
abbrev mX7_wrong : sd_Y := (yX7_wrong, cX7_wrong, 1, some (.object "SofaDig$Fault"), none)
def fX7_wrong (G : sd_G) (a0 : Nat) : sd_M Nat :=
  sd_bnd (sd_new 51 8 [.null, .null, .null, .null, .int 0, .int 0]) fun o1 =>
  sd_bnd (sd_isC G 6 a0) fun _ =>
  sd_bnd (fX7_now G a0) fun r2 =>
  sd_bnd (sd_getI G 8 2 r2) fun v3 =>
  sd_bnd (fX10_init G o1 1 v3) fun _ =>
  sd_ret o1
set_option maxHeartbeats 4000000 in
theorem sX7_wrong (l : Launch) (hl : l.stackTraces = false) (G : sd_G) (a0 : Nat) (h : sd_H) (ρ : Nat) (cT : Nat × Nat) (h2 : sd_H) (hf : fX7_wrong G a0 h = some (ρ, cT, h2)) : sd_Met mX7_wrong ((l, G), (5, 84), [.ref a0], (sd_oR ρ, h2), cT) h := by
  refine sd_entry (plainFor_of_name rfl) rfl (Nat.le_of_ble_eq_true rfl) ?_
  show sd_J mX7_wrong ((l, G), (5, 84), [.ref a0], (sd_oR ρ, h2), cT) 0 [(0, .ref a0)] [] h cT
  unfold fX7_wrong at hf
  refine sj_new fnX7_41 hf dX7_wrong_0 (fun o1 h c hf => ?_)
  refine sj_dup dX7_wrong_3 rfl ?_
  refine sj_iconst (v := 1) dX7_wrong_4 (by decide) ?_
  refine sj_aload_n 0 dX7_wrong_5 rfl ?_
  obtain ⟨fs6, he6, hf⟩ := sd_isC_some hf
  refine sj_cR (rest := [.int 1, .ref o1, .ref o1]) (fun _ _ _ e => sj_runV (n := 0) (As := []) (rest := [.int 1, .ref o1, .ref o1]) (sX7_now l G a0 h _ _ _ e) he6 rfl rfl rfl rfl q991 q993 qs7 q134 q994 (by decide +kernel) rfl rfl ⟨Nat.le_of_ble_eq_true rfl, Nat.le_of_ble_eq_true rfl⟩ rfl (Nat.le_of_ble_eq_true rfl) dX7_wrong_6) hf (fun r2 h c hf => ?_)
  refine sj_getI fdX7_47_8 hf dX7_wrong_9 (fun v3 hf => ?_)
  refine sj_cV (rest := [.ref o1]) (fun _ _ _ e => sj_runI (n := 2) (a := o1) (As := [.int 1, .int v3]) (rest := [.ref o1]) (sX10_init l hl G o1 1 v3 h _ _ _ e) rfl rfl q1043 q1044 q151 q1045 rfl (by decide +kernel) rfl rfl (fun _ z => by cases z) ⟨Nat.le_of_ble_eq_true rfl, Nat.le_of_ble_eq_true rfl⟩ rfl (Nat.le_of_ble_eq_true rfl) dX7_wrong_12) hf (fun h c hf => ?_)
  exact sj_aret (o := sd_oR) hf rfl rfl rfl (Or.inl ⟨_, rfl⟩) dX7_wrong_15
/-! SofaDig$Reader.take(LSofaDig$Sort;)LSofaDig$Token; -/
abbrev cX7_take : ByteArray := prog_18_method_6_code
def yX7_take : MethodName := ⟨RX7, "take", "(LSofaDig$Sort;)LSofaDig$Token;"⟩
def dkwX7_take_1 : List UInt8 := [96, 181, 0, 29, 44, 176]
abbrev dktX7_take_1 : List UInt8 := dkwX7_take_1 ++ []
def dkwX7_take_0 : List UInt8 := [42, 182, 0, 43, 77, 44, 180, 0, 62, 43, 165, 0, 8, 42, 182, 0, 58, 191, 42, 89, 180, 0, 29, 4]
abbrev dktX7_take_0 : List UInt8 := dkwX7_take_0 ++ dktX7_take_1
theorem dksX7_take_0 : cX7_take.data.toList.drop 0 = dktX7_take_0 := by decide +kernel
theorem dksX7_take_1 : cX7_take.data.toList.drop 24 = dktX7_take_1 := dk_seg dksX7_take_0 24 rfl rfl
theorem dX7_take_0 : decode cX7_take 0 = .ok (.aload_n 0, 1) := dk_42 (dk_at dksX7_take_0 0 rfl rfl)
theorem dX7_take_1 : decode cX7_take 1 = .ok (.invokevirtual 43, 3) := dk_182 0 43 (dk_at dksX7_take_0 1 rfl rfl)
theorem dX7_take_4 : decode cX7_take 4 = .ok (.astore_n 2, 1) := dk_77 (dk_at dksX7_take_0 4 rfl rfl)
theorem dX7_take_5 : decode cX7_take 5 = .ok (.aload_n 2, 1) := dk_44 (dk_at dksX7_take_0 5 rfl rfl)
theorem dX7_take_6 : decode cX7_take 6 = .ok (.getfield 62, 3) := dk_180 0 62 (dk_at dksX7_take_0 6 rfl rfl)
theorem dX7_take_9 : decode cX7_take 9 = .ok (.aload_n 1, 1) := dk_43 (dk_at dksX7_take_0 9 rfl rfl)
theorem dX7_take_10 : decode cX7_take 10 = .ok (.if_acmp .eq 8, 3) := dk_165 0 8 (dk_at dksX7_take_0 10 rfl rfl)
theorem dX7_take_13 : decode cX7_take 13 = .ok (.aload_n 0, 1) := dk_42 (dk_at dksX7_take_0 13 rfl rfl)
theorem dX7_take_14 : decode cX7_take 14 = .ok (.invokevirtual 58, 3) := dk_182 0 58 (dk_at dksX7_take_0 14 rfl rfl)
theorem dX7_take_17 : decode cX7_take 17 = .ok (.athrow, 1) := dk_191 (dk_at dksX7_take_0 17 rfl rfl)
theorem dX7_take_18 : decode cX7_take 18 = .ok (.aload_n 0, 1) := dk_42 (dk_at dksX7_take_0 18 rfl rfl)
theorem dX7_take_19 : decode cX7_take 19 = .ok (.dup, 1) := dk_89 (dk_at dksX7_take_0 19 rfl rfl)
theorem dX7_take_20 : decode cX7_take 20 = .ok (.getfield 29, 3) := dk_180 0 29 (dk_at dksX7_take_0 20 rfl rfl)
theorem dX7_take_23 : decode cX7_take 23 = .ok (.iconst 1, 1) := dk_4 (dk_at dksX7_take_0 23 rfl rfl)
theorem dX7_take_24 : decode cX7_take 24 = .ok (.iadd, 1) := dk_96 (dk_at dksX7_take_1 0 rfl rfl)
theorem dX7_take_25 : decode cX7_take 25 = .ok (.putfield 29, 3) := dk_181 0 29 (dk_at dksX7_take_1 1 rfl rfl)
theorem dX7_take_28 : decode cX7_take 28 = .ok (.aload_n 2, 1) := dk_44 (dk_at dksX7_take_1 4 rfl rfl)
theorem dX7_take_29 : decode cX7_take 29 = .ok (.areturn, 1) := dk_176 (dk_at dksX7_take_1 5 rfl rfl)
theorem fdX7_62_8 : sd_Fd "SofaDig$Reader" 62 8 0 := ⟨(RX9, TX9, 3), "SofaDig$Token", rfl, by decide, rfl, in_X9, Or.inl rfl, Or.inr ⟨_, q503⟩⟩
abbrev mX7_take : sd_Y := (yX7_take, cX7_take, 3, some (.object "SofaDig$Token"), none)
def fX7_take (G : sd_G) (a0 : Nat) (a1 : Nat) : sd_M (Nat ⊕ Nat) :=
  sd_bnd (sd_isC G 6 a0) fun _ =>
  sd_bnd (fX7_now G a0) fun r1 =>
  sd_bnd (sd_getR G 8 0 r1) fun v2 =>
  if v2 = a1 then (
    sd_bnd (sd_getI G 6 1 a0) fun v3 =>
    sd_bnd (sd_put 6 1 .int a0 (.int (v3 + 1))) fun _ =>
    sd_ret (.inl r1))
  else (
    sd_bnd (sd_isC G 6 a0) fun _ =>
    sd_bnd (fX7_wrong G a0) fun r4 =>
    sd_bnd (sd_own r4) fun k17 => if k17 = 9 then sd_ret (.inr r4) else sd_fail)
set_option maxHeartbeats 4000000 in
theorem sX7_take (l : Launch) (hl : l.stackTraces = false) (G : sd_G) (a0 : Nat) (a1 : Nat) (h : sd_H) (ρ : Nat ⊕ Nat) (cT : Nat × Nat) (h2 : sd_H) (hf : fX7_take G a0 a1 h = some (ρ, cT, h2)) : sd_Met mX7_take ((l, G), (6, 104), [.ref a0, .ref a1], ((sd_ox sd_oR) ρ, h2), cT) h := by
  refine sd_entry (plainFor_of_name rfl) rfl (Nat.le_of_ble_eq_true rfl) ?_
  show sd_J mX7_take ((l, G), (6, 104), [.ref a0, .ref a1], ((sd_ox sd_oR) ρ, h2), cT) 0 [(0, .ref a0), (1, .ref a1)] [] h cT
  unfold fX7_take at hf
  refine sj_aload_n 0 dX7_take_0 rfl ?_
  obtain ⟨fs1, he1, hf⟩ := sd_isC_some hf
  refine sj_cR (rest := []) (fun _ _ _ e => sj_runV (n := 0) (As := []) (rest := []) (sX7_now l G a0 h _ _ _ e) he1 rfl rfl rfl rfl q991 q993 qs7 q134 q994 (by decide +kernel) rfl rfl ⟨Nat.le_of_ble_eq_true rfl, Nat.le_of_ble_eq_true rfl⟩ rfl (Nat.le_of_ble_eq_true rfl) dX7_take_1) hf (fun r1 h c hf => ?_)
  refine sj_astore_n [(2, .ref r1), (0, .ref a0), (1, .ref a1)] dX7_take_4 (by decide) rfl ?_
  refine sj_aload_n 0 dX7_take_5 rfl ?_
  refine sj_getR fdX7_62_8 hf dX7_take_6 (fun v2 hf => ?_)
  refine sj_aload_n 2 dX7_take_9 rfl ?_
  refine sj_aceqR 18 hf dX7_take_10 (by decide) (fun g10 hf => ?_) (fun g10 hf => ?_)
  · refine sj_aload_n 1 dX7_take_18 rfl ?_
    refine sj_dup dX7_take_19 rfl ?_
    refine sj_getI fdX7_29_6 hf dX7_take_20 (fun v3 hf => ?_)
    refine sj_iconst (v := 1) dX7_take_23 (by decide) ?_
    refine sj_iadd dX7_take_24 ?_
    refine sj_put (fpX7_29_6 _ _) hf dX7_take_25 (fun h hf => ?_)
    refine sj_aload_n 0 dX7_take_28 rfl ?_
    exact sj_aret (o := (sd_ox sd_oR)) hf rfl rfl rfl (Or.inl ⟨_, rfl⟩) dX7_take_29
  · refine sj_aload_n 1 dX7_take_13 rfl ?_
    obtain ⟨fs14, he14, hf⟩ := sd_isC_some hf
    refine sj_cR (rest := []) (fun _ _ _ e => sj_runV (n := 0) (As := []) (rest := []) (sX7_wrong l hl G a0 h _ _ _ e) he14 rfl rfl rfl rfl q1030 q1032 qs10 q134 q1033 (by decide +kernel) rfl rfl ⟨Nat.le_of_ble_eq_true rfl, Nat.le_of_ble_eq_true rfl⟩ rfl (Nat.le_of_ble_eq_true rfl) dX7_take_14) hf (fun r4 h c hf => ?_)
    obtain ⟨ci17, fs17, he17, hf⟩ := sd_own_some hf
    by_cases z17 : ci17 = 9
    · rw [if_pos z17] at hf; subst z17; exact sj_athrow he17 rfl dX7_take_17 (sj_outX hf rfl (by intro x hx; cases hx))
    · rw [if_neg z17] at hf; cases hf
/-! SofaDig$Reader.check(IZLSofaDig$Token;)V -/
abbrev cX7_check : ByteArray := prog_18_method_10_code
def yX7_check : MethodName := ⟨RX7, "check", "(IZLSofaDig$Token;)V"⟩
def dkwX7_check_1 : List UInt8 := [177]
abbrev dktX7_check_1 : List UInt8 := dkwX7_check_1 ++ []
def dkwX7_check_0 : List UInt8 := [42, 180, 0, 75, 153, 0, 20, 28, 154, 0, 16, 187, 0, 41, 89, 27, 45, 180, 0, 47, 183, 0, 48, 191]
abbrev dktX7_check_0 : List UInt8 := dkwX7_check_0 ++ dktX7_check_1
theorem dksX7_check_0 : cX7_check.data.toList.drop 0 = dktX7_check_0 := by decide +kernel
theorem dksX7_check_1 : cX7_check.data.toList.drop 24 = dktX7_check_1 := dk_seg dksX7_check_0 24 rfl rfl
theorem dX7_check_0 : decode cX7_check 0 = .ok (.aload_n 0, 1) := dk_42 (dk_at dksX7_check_0 0 rfl rfl)
theorem dX7_check_1 : decode cX7_check 1 = .ok (.getfield 75, 3) := dk_180 0 75 (dk_at dksX7_check_0 1 rfl rfl)
theorem dX7_check_4 : decode cX7_check 4 = .ok (.ifCond .eq 20, 3) := dk_153 0 20 (dk_at dksX7_check_0 4 rfl rfl)
theorem dX7_check_7 : decode cX7_check 7 = .ok (.iload_n 2, 1) := dk_28 (dk_at dksX7_check_0 7 rfl rfl)
theorem dX7_check_8 : decode cX7_check 8 = .ok (.ifCond .ne 16, 3) := dk_154 0 16 (dk_at dksX7_check_0 8 rfl rfl)
theorem dX7_check_11 : decode cX7_check 11 = .ok (.new 41, 3) := dk_187 0 41 (dk_at dksX7_check_0 11 rfl rfl)
theorem dX7_check_14 : decode cX7_check 14 = .ok (.dup, 1) := dk_89 (dk_at dksX7_check_0 14 rfl rfl)
theorem dX7_check_15 : decode cX7_check 15 = .ok (.iload_n 1, 1) := dk_27 (dk_at dksX7_check_0 15 rfl rfl)
theorem dX7_check_16 : decode cX7_check 16 = .ok (.aload_n 3, 1) := dk_45 (dk_at dksX7_check_0 16 rfl rfl)
theorem dX7_check_17 : decode cX7_check 17 = .ok (.getfield 47, 3) := dk_180 0 47 (dk_at dksX7_check_0 17 rfl rfl)
theorem dX7_check_20 : decode cX7_check 20 = .ok (.invokespecial 48, 3) := dk_183 0 48 (dk_at dksX7_check_0 20 rfl rfl)
theorem dX7_check_23 : decode cX7_check 23 = .ok (.athrow, 1) := dk_191 (dk_at dksX7_check_0 23 rfl rfl)
theorem dX7_check_24 : decode cX7_check 24 = .ok (.return_, 1) := dk_177 (dk_at dksX7_check_1 0 rfl rfl)
theorem fdX7_75_6 : sd_Fd "SofaDig$Reader" 75 6 3 := ⟨(RX7, TX7, 6), "SofaDig$Reader", rfl, by decide, rfl, in_X7, Or.inl rfl, Or.inl q962⟩
abbrev mX7_check : sd_Y := (yX7_check, cX7_check, 4, none, none)
def fX7_check (G : sd_G) (a0 : Nat) (a1 : Int32) (a2 : Int32) (a3 : Nat) : sd_M (Unit ⊕ Nat) :=
  sd_bnd (sd_getI G 6 3 a0) fun v1 =>
  if v1 = 0 then (
    sd_ret (.inl ()))
  else (
    if a2 = 0 then (
      sd_bnd (sd_new 51 8 [.null, .null, .null, .null, .int 0, .int 0]) fun o2 =>
      sd_bnd (sd_getI G 8 2 a3) fun v3 =>
      sd_bnd (fX10_init G o2 a1 v3) fun _ =>
      sd_bnd (sd_own o2) fun k23 => if k23 = 9 then sd_ret (.inr o2) else sd_fail)
    else (
      sd_ret (.inl ())))
set_option maxHeartbeats 4000000 in
theorem sX7_check (l : Launch) (hl : l.stackTraces = false) (G : sd_G) (a0 : Nat) (a1 : Int32) (a2 : Int32) (a3 : Nat) (h : sd_H) (ρ : Unit ⊕ Nat) (cT : Nat × Nat) (h2 : sd_H) (hf : fX7_check G a0 a1 a2 a3 h = some (ρ, cT, h2)) : sd_Met mX7_check ((l, G), (5, 76), [.ref a0, .int a1, .int a2, .ref a3], ((sd_ox sd_oV) ρ, h2), cT) h := by
  refine sd_entry (plainFor_of_name rfl) rfl (Nat.le_of_ble_eq_true rfl) ?_
  show sd_J mX7_check ((l, G), (5, 76), [.ref a0, .int a1, .int a2, .ref a3], ((sd_ox sd_oV) ρ, h2), cT) 0 [(0, .ref a0), (1, .int a1), (2, .int a2), (3, .ref a3)] [] h cT
  unfold fX7_check at hf
  refine sj_aload_n 0 dX7_check_0 rfl ?_
  refine sj_getI fdX7_75_6 hf dX7_check_1 (fun v1 hf => ?_)
  refine sj_ifeq 24 hf dX7_check_4 (by decide) (fun g4 hf => ?_) (fun g4 hf => ?_)
  · exact sj_vret (o := (sd_ox sd_oV)) hf rfl rfl rfl dX7_check_24
  · refine sj_iload_n 2 dX7_check_7 rfl ?_
    refine sj_ifne 24 hf dX7_check_8 (by decide) (fun g8 hf => ?_) (fun g8 hf => ?_)
    · exact sj_vret (o := (sd_ox sd_oV)) hf rfl rfl rfl dX7_check_24
    · refine sj_new fnX7_41 hf dX7_check_11 (fun o2 h c hf => ?_)
      refine sj_dup dX7_check_14 rfl ?_
      refine sj_iload_n 1 dX7_check_15 rfl ?_
      refine sj_aload_n 3 dX7_check_16 rfl ?_
      refine sj_getI fdX7_47_8 hf dX7_check_17 (fun v3 hf => ?_)
      refine sj_cV (rest := [.ref o2]) (fun _ _ _ e => sj_runI (n := 2) (a := o2) (As := [.int a1, .int v3]) (rest := [.ref o2]) (sX10_init l hl G o2 a1 v3 h _ _ _ e) rfl rfl q1043 q1044 q151 q1045 rfl (by decide +kernel) rfl rfl (fun _ z => by cases z) ⟨Nat.le_of_ble_eq_true rfl, Nat.le_of_ble_eq_true rfl⟩ rfl (Nat.le_of_ble_eq_true rfl) dX7_check_20) hf (fun h c hf => ?_)
      obtain ⟨ci23, fs23, he23, hf⟩ := sd_own_some hf
      by_cases z23 : ci23 = 9
      · rw [if_pos z23] at hf; subst z23; exact sj_athrow he23 rfl dX7_check_23 (sj_outX hf rfl (by intro x hx; cases hx))
      · rw [if_neg z23] at hf; cases hf
/-! SofaDig$Reader.number(II)I -/
abbrev cX7_number : ByteArray := prog_18_method_16_code
def yX7_number : MethodName := ⟨RX7, "number", "(II)I"⟩
def dkwX7_number_1 : List UInt8 := [163, 0, 7, 4, 167, 0, 4, 3, 45, 182, 0, 95, 45, 182, 0, 122, 172]
abbrev dktX7_number_1 : List UInt8 := dkwX7_number_1 ++ []
def dkwX7_number_0 : List UInt8 := [42, 178, 0, 119, 182, 0, 84, 78, 42, 8, 45, 182, 0, 122, 27, 161, 0, 15, 45, 182, 0, 122, 28]
abbrev dktX7_number_0 : List UInt8 := dkwX7_number_0 ++ dktX7_number_1
theorem dksX7_number_0 : cX7_number.data.toList.drop 0 = dktX7_number_0 := by decide +kernel
theorem dksX7_number_1 : cX7_number.data.toList.drop 23 = dktX7_number_1 := dk_seg dksX7_number_0 23 rfl rfl
theorem dX7_number_0 : decode cX7_number 0 = .ok (.aload_n 0, 1) := dk_42 (dk_at dksX7_number_0 0 rfl rfl)
theorem dX7_number_1 : decode cX7_number 1 = .ok (.getstatic 119, 3) := dk_178 0 119 (dk_at dksX7_number_0 1 rfl rfl)
theorem dX7_number_4 : decode cX7_number 4 = .ok (.invokevirtual 84, 3) := dk_182 0 84 (dk_at dksX7_number_0 4 rfl rfl)
theorem dX7_number_7 : decode cX7_number 7 = .ok (.astore_n 3, 1) := dk_78 (dk_at dksX7_number_0 7 rfl rfl)
theorem dX7_number_8 : decode cX7_number 8 = .ok (.aload_n 0, 1) := dk_42 (dk_at dksX7_number_0 8 rfl rfl)
theorem dX7_number_9 : decode cX7_number 9 = .ok (.iconst 5, 1) := dk_8 (dk_at dksX7_number_0 9 rfl rfl)
theorem dX7_number_10 : decode cX7_number 10 = .ok (.aload_n 3, 1) := dk_45 (dk_at dksX7_number_0 10 rfl rfl)
theorem dX7_number_11 : decode cX7_number 11 = .ok (.invokevirtual 122, 3) := dk_182 0 122 (dk_at dksX7_number_0 11 rfl rfl)
theorem dX7_number_14 : decode cX7_number 14 = .ok (.iload_n 1, 1) := dk_27 (dk_at dksX7_number_0 14 rfl rfl)
theorem dX7_number_15 : decode cX7_number 15 = .ok (.if_icmp .lt 15, 3) := dk_161 0 15 (dk_at dksX7_number_0 15 rfl rfl)
theorem dX7_number_18 : decode cX7_number 18 = .ok (.aload_n 3, 1) := dk_45 (dk_at dksX7_number_0 18 rfl rfl)
theorem dX7_number_19 : decode cX7_number 19 = .ok (.invokevirtual 122, 3) := dk_182 0 122 (dk_at dksX7_number_0 19 rfl rfl)
theorem dX7_number_22 : decode cX7_number 22 = .ok (.iload_n 2, 1) := dk_28 (dk_at dksX7_number_0 22 rfl rfl)
theorem dX7_number_23 : decode cX7_number 23 = .ok (.if_icmp .gt 7, 3) := dk_163 0 7 (dk_at dksX7_number_1 0 rfl rfl)
theorem dX7_number_26 : decode cX7_number 26 = .ok (.iconst 1, 1) := dk_4 (dk_at dksX7_number_1 3 rfl rfl)
theorem dX7_number_27 : decode cX7_number 27 = .ok (.goto 4, 3) := dk_167 0 4 (dk_at dksX7_number_1 4 rfl rfl)
theorem dX7_number_30 : decode cX7_number 30 = .ok (.iconst 0, 1) := dk_3 (dk_at dksX7_number_1 7 rfl rfl)
theorem dX7_number_31 : decode cX7_number 31 = .ok (.aload_n 3, 1) := dk_45 (dk_at dksX7_number_1 8 rfl rfl)
theorem dX7_number_32 : decode cX7_number 32 = .ok (.invokevirtual 95, 3) := dk_182 0 95 (dk_at dksX7_number_1 9 rfl rfl)
theorem dX7_number_35 : decode cX7_number 35 = .ok (.aload_n 3, 1) := dk_45 (dk_at dksX7_number_1 12 rfl rfl)
theorem dX7_number_36 : decode cX7_number 36 = .ok (.invokevirtual 122, 3) := dk_182 0 122 (dk_at dksX7_number_1 13 rfl rfl)
theorem dX7_number_39 : decode cX7_number 39 = .ok (.ireturn, 1) := dk_172 (dk_at dksX7_number_1 16 rfl rfl)
abbrev mX7_number : sd_Y := (yX7_number, cX7_number, 4, some (.int), none)
def fX7_number_b31 (G : sd_G) (w3 : Nat) (y0 : Int32) (y1 : Int32) (y2 : Nat) : sd_M (Int32 ⊕ Nat) :=
  sd_bnd (sd_isC G 6 y2) fun _ =>
  sd_bx (fX7_check G y2 y1 y0 w3) (fun e32 =>
    sd_ret (.inr e32)) fun _ =>
  sd_bnd (sd_isC G 8 w3) fun _ =>
  sd_bnd (fX9_number G w3) fun r3 =>
  sd_ret (.inl r3)
set_option maxHeartbeats 4000000 in
theorem sX7_number_b31 (l : Launch) (hl : l.stackTraces = false) (G : sd_G) (a0 : Nat) (a1 : Int32) (a2 : Int32) (ρ : Int32 ⊕ Nat) (h2 : sd_H) (cT : Nat × Nat) (w3 : Nat) (y0 : Int32) (y1 : Int32) (y2 : Nat) (h : sd_H) (c : Nat × Nat) (hf : fX7_number_b31 G w3 y0 y1 y2 h = some (ρ, c, h2)) : sd_J mX7_number ((l, G), (7, 126), [.ref a0, .int a1, .int a2], ((sd_ox sd_oI) ρ, h2), cT) 31 [(3, .ref w3)] [.int y0, .int y1, .ref y2] h c := by
  unfold fX7_number_b31 at hf
  refine sj_aload_n 0 dX7_number_31 rfl ?_
  obtain ⟨fs32, he32, hf⟩ := sd_isC_some hf
  refine sj_xV (rest := []) (fun _ _ _ e => sj_runV (n := 3) (As := [.int y1, .int y0, .ref w3]) (rest := []) (sX7_check l hl G y2 y1 y0 w3 h _ _ _ e) he32 rfl rfl rfl rfl q1076 q1078 qs11 q134 q1079 (by decide +kernel) rfl rfl ⟨Nat.le_of_ble_eq_true rfl, Nat.le_of_ble_eq_true rfl⟩ rfl (Nat.le_of_ble_eq_true rfl) dX7_number_32) hf (fun e32 h c hf => ?_) (fun h c hf => ?_)
  · exact sj_outX hf rfl (by intro x hx; cases hx)
  refine sj_aload_n 0 dX7_number_35 rfl ?_
  obtain ⟨fs36, he36, hf⟩ := sd_isC_some hf
  refine sj_cI (rest := []) (fun _ _ _ e => sj_runV (n := 0) (As := []) (rest := []) (sX9_number l G w3 h _ _ _ e) he36 rfl rfl rfl rfl q1060 q1061 q1062 q136 q1063 (by decide +kernel) rfl rfl ⟨Nat.le_of_ble_eq_true rfl, Nat.le_of_ble_eq_true rfl⟩ rfl (Nat.le_of_ble_eq_true rfl) dX7_number_36) hf (fun r3 h c hf => ?_)
  exact sj_iret (o := (sd_ox sd_oI)) hf rfl rfl rfl dX7_number_39
def fX7_number_b30 (G : sd_G) (w3 : Nat) (y0 : Int32) (y1 : Nat) : sd_M (Int32 ⊕ Nat) :=
  fX7_number_b31 G w3 0 y0 y1
set_option maxHeartbeats 4000000 in
theorem sX7_number_b30 (l : Launch) (hl : l.stackTraces = false) (G : sd_G) (a0 : Nat) (a1 : Int32) (a2 : Int32) (ρ : Int32 ⊕ Nat) (h2 : sd_H) (cT : Nat × Nat) (w3 : Nat) (y0 : Int32) (y1 : Nat) (h : sd_H) (c : Nat × Nat) (hf : fX7_number_b30 G w3 y0 y1 h = some (ρ, c, h2)) : sd_J mX7_number ((l, G), (7, 126), [.ref a0, .int a1, .int a2], ((sd_ox sd_oI) ρ, h2), cT) 30 [(3, .ref w3)] [.int y0, .ref y1] h c := by
  unfold fX7_number_b30 at hf
  refine sj_iconst (v := 0) dX7_number_30 (by decide) ?_
  exact sj_loc [0] rfl (sX7_number_b31 l hl G a0 a1 a2 ρ h2 cT w3 0 y0 y1 _ _ hf)
def fX7_number (G : sd_G) (a0 : Nat) (a1 : Int32) (a2 : Int32) : sd_M (Int32 ⊕ Nat) :=
  sd_bnd (sd_isC G 6 a0) fun _ =>
  sd_bx (fX7_take G a0 (sd_ad G 5)) (fun e4 =>
    sd_ret (.inr e4)) fun r1 =>
  sd_bnd (sd_isC G 8 r1) fun _ =>
  sd_bnd (fX9_number G r1) fun r2 =>
  if r2 < a1 then (
    fX7_number_b30 G r1 5 a0)
  else (
    sd_bnd (sd_isC G 8 r1) fun _ =>
    sd_bnd (fX9_number G r1) fun r4 =>
    if a2 < r4 then (
      fX7_number_b30 G r1 5 a0)
    else (
      fX7_number_b31 G r1 1 5 a0))
set_option maxHeartbeats 4000000 in
theorem sX7_number (l : Launch) (hl : l.stackTraces = false) (G : sd_G) (a0 : Nat) (a1 : Int32) (a2 : Int32) (h : sd_H) (ρ : Int32 ⊕ Nat) (cT : Nat × Nat) (h2 : sd_H) (hf : fX7_number G a0 a1 a2 h = some (ρ, cT, h2)) : sd_Met mX7_number ((l, G), (7, 126), [.ref a0, .int a1, .int a2], ((sd_ox sd_oI) ρ, h2), cT) h := by
  refine sd_entry (plainFor_of_name rfl) rfl (Nat.le_of_ble_eq_true rfl) ?_
  show sd_J mX7_number ((l, G), (7, 126), [.ref a0, .int a1, .int a2], ((sd_ox sd_oI) ρ, h2), cT) 0 [(0, .ref a0), (1, .int a1), (2, .int a2)] [] h cT
  unfold fX7_number at hf
  refine sj_aload_n 0 dX7_number_0 rfl ?_
  refine sj_gets (v := .ref (sd_ad G 5)) 12 rfl rfl ⟨Or.inl q1025, rfl⟩ dX7_number_1 ?_
  obtain ⟨fs4, he4, hf⟩ := sd_isC_some hf
  refine sj_xR (rest := []) (fun _ _ _ e => sj_runV (n := 1) (As := [.ref (sd_ad G 5)]) (rest := []) (sX7_take l hl G a0 (sd_ad G 5) h _ _ _ e) he4 rfl rfl rfl rfl q1026 q1028 qs9 q134 q1029 (by decide +kernel) rfl rfl ⟨Nat.le_of_ble_eq_true rfl, Nat.le_of_ble_eq_true rfl⟩ rfl (Nat.le_of_ble_eq_true rfl) dX7_number_4) hf (fun e4 h c hf => ?_) (fun r1 h c hf => ?_)
  · exact sj_outX hf rfl (by intro x hx; cases hx)
  refine sj_astore_n [(3, .ref r1), (0, .ref a0), (1, .int a1), (2, .int a2)] dX7_number_7 (by decide) rfl ?_
  refine sj_aload_n 1 dX7_number_8 rfl ?_
  refine sj_iconst (v := 5) dX7_number_9 (by decide) ?_
  refine sj_aload_n 0 dX7_number_10 rfl ?_
  obtain ⟨fs11, he11, hf⟩ := sd_isC_some hf
  refine sj_cI (rest := [.int 5, .ref a0]) (fun _ _ _ e => sj_runV (n := 0) (As := []) (rest := [.int 5, .ref a0]) (sX9_number l G r1 h _ _ _ e) he11 rfl rfl rfl rfl q1060 q1061 q1062 q136 q1063 (by decide +kernel) rfl rfl ⟨Nat.le_of_ble_eq_true rfl, Nat.le_of_ble_eq_true rfl⟩ rfl (Nat.le_of_ble_eq_true rfl) dX7_number_11) hf (fun r2 h c hf => ?_)
  refine sj_iload_n 2 dX7_number_14 rfl ?_
  refine sj_iclt 30 hf dX7_number_15 (by decide) (fun g15 hf => ?_) (fun g15 hf => ?_)
  · exact sj_loc [0] rfl (sX7_number_b30 l hl G a0 a1 a2 ρ h2 cT r1 5 a0 _ _ hf)
  · refine sj_aload_n 0 dX7_number_18 rfl ?_
    obtain ⟨fs19, he19, hf⟩ := sd_isC_some hf
    refine sj_cI (rest := [.int 5, .ref a0]) (fun _ _ _ e => sj_runV (n := 0) (As := []) (rest := [.int 5, .ref a0]) (sX9_number l G r1 h _ _ _ e) he19 rfl rfl rfl rfl q1060 q1061 q1062 q136 q1063 (by decide +kernel) rfl rfl ⟨Nat.le_of_ble_eq_true rfl, Nat.le_of_ble_eq_true rfl⟩ rfl (Nat.le_of_ble_eq_true rfl) dX7_number_19) hf (fun r4 h c hf => ?_)
    refine sj_iload_n 3 dX7_number_22 rfl ?_
    refine sj_icgt 30 hf dX7_number_23 (by decide) (fun g23 hf => ?_) (fun g23 hf => ?_)
    · exact sj_loc [0] rfl (sX7_number_b30 l hl G a0 a1 a2 ρ h2 cT r1 5 a0 _ _ hf)
    · refine sj_iconst (v := 1) dX7_number_26 (by decide) ?_
      refine sj_goto 31 dX7_number_27 (by decide) ?_
      exact sj_loc [0] rfl (sX7_number_b31 l hl G a0 a1 a2 ρ h2 cT r1 1 5 a0 _ _ hf)
/-! SofaDig$Reader.take(Ljava/lang/String;)V -/
abbrev cX7_take_2 : ByteArray := prog_18_method_5_code
def yX7_take_2 : MethodName := ⟨RX7, "take", "(Ljava/lang/String;)V"⟩
def dkwX7_take_2_0 : List UInt8 := [42, 43, 182, 0, 55, 154, 0, 8, 42, 182, 0, 58, 191, 177]
abbrev dktX7_take_2_0 : List UInt8 := dkwX7_take_2_0 ++ []
theorem dksX7_take_2_0 : cX7_take_2.data.toList.drop 0 = dktX7_take_2_0 := by decide +kernel
theorem dX7_take_2_0 : decode cX7_take_2 0 = .ok (.aload_n 0, 1) := dk_42 (dk_at dksX7_take_2_0 0 rfl rfl)
theorem dX7_take_2_1 : decode cX7_take_2 1 = .ok (.aload_n 1, 1) := dk_43 (dk_at dksX7_take_2_0 1 rfl rfl)
theorem dX7_take_2_2 : decode cX7_take_2 2 = .ok (.invokevirtual 55, 3) := dk_182 0 55 (dk_at dksX7_take_2_0 2 rfl rfl)
theorem dX7_take_2_5 : decode cX7_take_2 5 = .ok (.ifCond .ne 8, 3) := dk_154 0 8 (dk_at dksX7_take_2_0 5 rfl rfl)
theorem dX7_take_2_8 : decode cX7_take_2 8 = .ok (.aload_n 0, 1) := dk_42 (dk_at dksX7_take_2_0 8 rfl rfl)
theorem dX7_take_2_9 : decode cX7_take_2 9 = .ok (.invokevirtual 58, 3) := dk_182 0 58 (dk_at dksX7_take_2_0 9 rfl rfl)
theorem dX7_take_2_12 : decode cX7_take_2 12 = .ok (.athrow, 1) := dk_191 (dk_at dksX7_take_2_0 12 rfl rfl)
theorem dX7_take_2_13 : decode cX7_take_2 13 = .ok (.return_, 1) := dk_177 (dk_at dksX7_take_2_0 13 rfl rfl)
abbrev mX7_take_2 : sd_Y := (yX7_take_2, cX7_take_2, 2, none, none)
def fX7_take_2 (G : sd_G) (a0 : Nat) (a1 : Nat) : sd_M (Unit ⊕ Nat) :=
  sd_bnd (sd_isC G 6 a0) fun _ =>
  sd_bnd (fX7_takeIf G a0 a1) fun r1 =>
  if r1 = 0 then (
    sd_bnd (sd_isC G 6 a0) fun _ =>
    sd_bnd (fX7_wrong G a0) fun r2 =>
    sd_bnd (sd_own r2) fun k12 => if k12 = 9 then sd_ret (.inr r2) else sd_fail)
  else (
    sd_ret (.inl ()))
set_option maxHeartbeats 4000000 in
theorem sX7_take_2 (l : Launch) (hl : l.stackTraces = false) (G : sd_G) (a0 : Nat) (a1 : Nat) (h : sd_H) (ρ : Unit ⊕ Nat) (cT : Nat × Nat) (h2 : sd_H) (hf : fX7_take_2 G a0 a1 h = some (ρ, cT, h2)) : sd_Met mX7_take_2 ((l, G), (6, 106), [.ref a0, .ref a1], ((sd_ox sd_oV) ρ, h2), cT) h := by
  refine sd_entry (plainFor_of_name rfl) rfl (Nat.le_of_ble_eq_true rfl) ?_
  show sd_J mX7_take_2 ((l, G), (6, 106), [.ref a0, .ref a1], ((sd_ox sd_oV) ρ, h2), cT) 0 [(0, .ref a0), (1, .ref a1)] [] h cT
  unfold fX7_take_2 at hf
  refine sj_aload_n 0 dX7_take_2_0 rfl ?_
  refine sj_aload_n 1 dX7_take_2_1 rfl ?_
  obtain ⟨fs2, he2, hf⟩ := sd_isC_some hf
  refine sj_cI (rest := []) (fun _ _ _ e => sj_runV (n := 1) (As := [.ref a1]) (rest := []) (sX7_takeIf l G a0 a1 h _ _ _ e) he2 rfl rfl rfl rfl q987 q989 qs6 q134 q990 (by decide +kernel) rfl rfl ⟨Nat.le_of_ble_eq_true rfl, Nat.le_of_ble_eq_true rfl⟩ rfl (Nat.le_of_ble_eq_true rfl) dX7_take_2_2) hf (fun r1 h c hf => ?_)
  refine sj_ifne 13 hf dX7_take_2_5 (by decide) (fun g5 hf => ?_) (fun g5 hf => ?_)
  · exact sj_vret (o := (sd_ox sd_oV)) hf rfl rfl rfl dX7_take_2_13
  · refine sj_aload_n 0 dX7_take_2_8 rfl ?_
    obtain ⟨fs9, he9, hf⟩ := sd_isC_some hf
    refine sj_cR (rest := []) (fun _ _ _ e => sj_runV (n := 0) (As := []) (rest := []) (sX7_wrong l hl G a0 h _ _ _ e) he9 rfl rfl rfl rfl q1030 q1032 qs10 q134 q1033 (by decide +kernel) rfl rfl ⟨Nat.le_of_ble_eq_true rfl, Nat.le_of_ble_eq_true rfl⟩ rfl (Nat.le_of_ble_eq_true rfl) dX7_take_2_9) hf (fun r2 h c hf => ?_)
    obtain ⟨ci12, fs12, he12, hf⟩ := sd_own_some hf
    by_cases z12 : ci12 = 9
    · rw [if_pos z12] at hf; subst z12; exact sj_athrow he12 rfl dX7_take_2_12 (sj_outX hf rfl (by intro x hx; cases hx))
    · rw [if_neg z12] at hf; cases hf
/-! SofaDig$Reader.numberOf(Ljava/lang/String;II)I -/
abbrev cX7_numberOf : ByteArray := prog_18_method_14_code
def yX7_numberOf : MethodName := ⟨RX7, "numberOf", "(Ljava/lang/String;II)I"⟩
def dkwX7_numberOf_2 : List UInt8 := [182, 0, 122, 172]
abbrev dktX7_numberOf_2 : List UInt8 := dkwX7_numberOf_2 ++ []
def dkwX7_numberOf_1 : List UInt8 := [161, 0, 16, 25, 4, 182, 0, 122, 29, 163, 0, 7, 4, 167, 0, 4, 3, 25, 4, 182, 0, 95, 25, 4]
abbrev dktX7_numberOf_1 : List UInt8 := dkwX7_numberOf_1 ++ dktX7_numberOf_2
def dkwX7_numberOf_0 : List UInt8 := [42, 43, 182, 0, 69, 42, 178, 0, 119, 182, 0, 84, 58, 4, 42, 8, 25, 4, 182, 0, 122, 28]
abbrev dktX7_numberOf_0 : List UInt8 := dkwX7_numberOf_0 ++ dktX7_numberOf_1
theorem dksX7_numberOf_0 : cX7_numberOf.data.toList.drop 0 = dktX7_numberOf_0 := by decide +kernel
theorem dksX7_numberOf_1 : cX7_numberOf.data.toList.drop 22 = dktX7_numberOf_1 := dk_seg dksX7_numberOf_0 22 rfl rfl
theorem dksX7_numberOf_2 : cX7_numberOf.data.toList.drop 46 = dktX7_numberOf_2 := dk_seg dksX7_numberOf_1 24 rfl rfl
theorem dX7_numberOf_0 : decode cX7_numberOf 0 = .ok (.aload_n 0, 1) := dk_42 (dk_at dksX7_numberOf_0 0 rfl rfl)
theorem dX7_numberOf_1 : decode cX7_numberOf 1 = .ok (.aload_n 1, 1) := dk_43 (dk_at dksX7_numberOf_0 1 rfl rfl)
theorem dX7_numberOf_2 : decode cX7_numberOf 2 = .ok (.invokevirtual 69, 3) := dk_182 0 69 (dk_at dksX7_numberOf_0 2 rfl rfl)
theorem dX7_numberOf_5 : decode cX7_numberOf 5 = .ok (.aload_n 0, 1) := dk_42 (dk_at dksX7_numberOf_0 5 rfl rfl)
theorem dX7_numberOf_6 : decode cX7_numberOf 6 = .ok (.getstatic 119, 3) := dk_178 0 119 (dk_at dksX7_numberOf_0 6 rfl rfl)
theorem dX7_numberOf_9 : decode cX7_numberOf 9 = .ok (.invokevirtual 84, 3) := dk_182 0 84 (dk_at dksX7_numberOf_0 9 rfl rfl)
theorem dX7_numberOf_12 : decode cX7_numberOf 12 = .ok (.astore 4, 2) := dk_58 4 (dk_at dksX7_numberOf_0 12 rfl rfl)
theorem dX7_numberOf_14 : decode cX7_numberOf 14 = .ok (.aload_n 0, 1) := dk_42 (dk_at dksX7_numberOf_0 14 rfl rfl)
theorem dX7_numberOf_15 : decode cX7_numberOf 15 = .ok (.iconst 5, 1) := dk_8 (dk_at dksX7_numberOf_0 15 rfl rfl)
theorem dX7_numberOf_16 : decode cX7_numberOf 16 = .ok (.aload 4, 2) := dk_25 4 (dk_at dksX7_numberOf_0 16 rfl rfl)
theorem dX7_numberOf_18 : decode cX7_numberOf 18 = .ok (.invokevirtual 122, 3) := dk_182 0 122 (dk_at dksX7_numberOf_0 18 rfl rfl)
theorem dX7_numberOf_21 : decode cX7_numberOf 21 = .ok (.iload_n 2, 1) := dk_28 (dk_at dksX7_numberOf_0 21 rfl rfl)
theorem dX7_numberOf_22 : decode cX7_numberOf 22 = .ok (.if_icmp .lt 16, 3) := dk_161 0 16 (dk_at dksX7_numberOf_1 0 rfl rfl)
theorem dX7_numberOf_25 : decode cX7_numberOf 25 = .ok (.aload 4, 2) := dk_25 4 (dk_at dksX7_numberOf_1 3 rfl rfl)
theorem dX7_numberOf_27 : decode cX7_numberOf 27 = .ok (.invokevirtual 122, 3) := dk_182 0 122 (dk_at dksX7_numberOf_1 5 rfl rfl)
theorem dX7_numberOf_30 : decode cX7_numberOf 30 = .ok (.iload_n 3, 1) := dk_29 (dk_at dksX7_numberOf_1 8 rfl rfl)
theorem dX7_numberOf_31 : decode cX7_numberOf 31 = .ok (.if_icmp .gt 7, 3) := dk_163 0 7 (dk_at dksX7_numberOf_1 9 rfl rfl)
theorem dX7_numberOf_34 : decode cX7_numberOf 34 = .ok (.iconst 1, 1) := dk_4 (dk_at dksX7_numberOf_1 12 rfl rfl)
theorem dX7_numberOf_35 : decode cX7_numberOf 35 = .ok (.goto 4, 3) := dk_167 0 4 (dk_at dksX7_numberOf_1 13 rfl rfl)
theorem dX7_numberOf_38 : decode cX7_numberOf 38 = .ok (.iconst 0, 1) := dk_3 (dk_at dksX7_numberOf_1 16 rfl rfl)
theorem dX7_numberOf_39 : decode cX7_numberOf 39 = .ok (.aload 4, 2) := dk_25 4 (dk_at dksX7_numberOf_1 17 rfl rfl)
theorem dX7_numberOf_41 : decode cX7_numberOf 41 = .ok (.invokevirtual 95, 3) := dk_182 0 95 (dk_at dksX7_numberOf_1 19 rfl rfl)
theorem dX7_numberOf_44 : decode cX7_numberOf 44 = .ok (.aload 4, 2) := dk_25 4 (dk_at dksX7_numberOf_1 22 rfl rfl)
theorem dX7_numberOf_46 : decode cX7_numberOf 46 = .ok (.invokevirtual 122, 3) := dk_182 0 122 (dk_at dksX7_numberOf_2 0 rfl rfl)
theorem dX7_numberOf_49 : decode cX7_numberOf 49 = .ok (.ireturn, 1) := dk_172 (dk_at dksX7_numberOf_2 3 rfl rfl)
abbrev mX7_numberOf : sd_Y := (yX7_numberOf, cX7_numberOf, 5, some (.int), none)
def fX7_numberOf_b39 (G : sd_G) (w4 : Nat) (y0 : Int32) (y1 : Int32) (y2 : Nat) : sd_M (Int32 ⊕ Nat) :=
  sd_bnd (sd_isC G 6 y2) fun _ =>
  sd_bx (fX7_check G y2 y1 y0 w4) (fun e41 =>
    sd_ret (.inr e41)) fun _ =>
  sd_bnd (sd_isC G 8 w4) fun _ =>
  sd_bnd (fX9_number G w4) fun r3 =>
  sd_ret (.inl r3)
set_option maxHeartbeats 4000000 in
theorem sX7_numberOf_b39 (l : Launch) (hl : l.stackTraces = false) (G : sd_G) (a0 : Nat) (a1 : Nat) (a2 : Int32) (a3 : Int32) (ρ : Int32 ⊕ Nat) (h2 : sd_H) (cT : Nat × Nat) (w4 : Nat) (y0 : Int32) (y1 : Int32) (y2 : Nat) (h : sd_H) (c : Nat × Nat) (hf : fX7_numberOf_b39 G w4 y0 y1 y2 h = some (ρ, c, h2)) : sd_J mX7_numberOf ((l, G), (7, 127), [.ref a0, .ref a1, .int a2, .int a3], ((sd_ox sd_oI) ρ, h2), cT) 39 [(4, .ref w4)] [.int y0, .int y1, .ref y2] h c := by
  unfold fX7_numberOf_b39 at hf
  refine sj_aload 0 dX7_numberOf_39 rfl ?_
  obtain ⟨fs41, he41, hf⟩ := sd_isC_some hf
  refine sj_xV (rest := []) (fun _ _ _ e => sj_runV (n := 3) (As := [.int y1, .int y0, .ref w4]) (rest := []) (sX7_check l hl G y2 y1 y0 w4 h _ _ _ e) he41 rfl rfl rfl rfl q1076 q1078 qs11 q134 q1079 (by decide +kernel) rfl rfl ⟨Nat.le_of_ble_eq_true rfl, Nat.le_of_ble_eq_true rfl⟩ rfl (Nat.le_of_ble_eq_true rfl) dX7_numberOf_41) hf (fun e41 h c hf => ?_) (fun h c hf => ?_)
  · exact sj_outX hf rfl (by intro x hx; cases hx)
  refine sj_aload 0 dX7_numberOf_44 rfl ?_
  obtain ⟨fs46, he46, hf⟩ := sd_isC_some hf
  refine sj_cI (rest := []) (fun _ _ _ e => sj_runV (n := 0) (As := []) (rest := []) (sX9_number l G w4 h _ _ _ e) he46 rfl rfl rfl rfl q1060 q1061 q1062 q136 q1063 (by decide +kernel) rfl rfl ⟨Nat.le_of_ble_eq_true rfl, Nat.le_of_ble_eq_true rfl⟩ rfl (Nat.le_of_ble_eq_true rfl) dX7_numberOf_46) hf (fun r3 h c hf => ?_)
  exact sj_iret (o := (sd_ox sd_oI)) hf rfl rfl rfl dX7_numberOf_49
def fX7_numberOf_b38 (G : sd_G) (w4 : Nat) (y0 : Int32) (y1 : Nat) : sd_M (Int32 ⊕ Nat) :=
  fX7_numberOf_b39 G w4 0 y0 y1
set_option maxHeartbeats 4000000 in
theorem sX7_numberOf_b38 (l : Launch) (hl : l.stackTraces = false) (G : sd_G) (a0 : Nat) (a1 : Nat) (a2 : Int32) (a3 : Int32) (ρ : Int32 ⊕ Nat) (h2 : sd_H) (cT : Nat × Nat) (w4 : Nat) (y0 : Int32) (y1 : Nat) (h : sd_H) (c : Nat × Nat) (hf : fX7_numberOf_b38 G w4 y0 y1 h = some (ρ, c, h2)) : sd_J mX7_numberOf ((l, G), (7, 127), [.ref a0, .ref a1, .int a2, .int a3], ((sd_ox sd_oI) ρ, h2), cT) 38 [(4, .ref w4)] [.int y0, .ref y1] h c := by
  unfold fX7_numberOf_b38 at hf
  refine sj_iconst (v := 0) dX7_numberOf_38 (by decide) ?_
  exact sj_loc [0] rfl (sX7_numberOf_b39 l hl G a0 a1 a2 a3 ρ h2 cT w4 0 y0 y1 _ _ hf)
def fX7_numberOf (G : sd_G) (a0 : Nat) (a1 : Nat) (a2 : Int32) (a3 : Int32) : sd_M (Int32 ⊕ Nat) :=
  sd_bnd (sd_isC G 6 a0) fun _ =>
  sd_bx (fX7_take_2 G a0 a1) (fun e2 =>
    sd_ret (.inr e2)) fun _ =>
  sd_bnd (sd_isC G 6 a0) fun _ =>
  sd_bx (fX7_take G a0 (sd_ad G 5)) (fun e9 =>
    sd_ret (.inr e9)) fun r1 =>
  sd_bnd (sd_isC G 8 r1) fun _ =>
  sd_bnd (fX9_number G r1) fun r2 =>
  if r2 < a2 then (
    fX7_numberOf_b38 G r1 5 a0)
  else (
    sd_bnd (sd_isC G 8 r1) fun _ =>
    sd_bnd (fX9_number G r1) fun r4 =>
    if a3 < r4 then (
      fX7_numberOf_b38 G r1 5 a0)
    else (
      fX7_numberOf_b39 G r1 1 5 a0))
set_option maxHeartbeats 4000000 in
theorem sX7_numberOf (l : Launch) (hl : l.stackTraces = false) (G : sd_G) (a0 : Nat) (a1 : Nat) (a2 : Int32) (a3 : Int32) (h : sd_H) (ρ : Int32 ⊕ Nat) (cT : Nat × Nat) (h2 : sd_H) (hf : fX7_numberOf G a0 a1 a2 a3 h = some (ρ, cT, h2)) : sd_Met mX7_numberOf ((l, G), (7, 127), [.ref a0, .ref a1, .int a2, .int a3], ((sd_ox sd_oI) ρ, h2), cT) h := by
  refine sd_entry (plainFor_of_name rfl) rfl (Nat.le_of_ble_eq_true rfl) ?_
  show sd_J mX7_numberOf ((l, G), (7, 127), [.ref a0, .ref a1, .int a2, .int a3], ((sd_ox sd_oI) ρ, h2), cT) 0 [(0, .ref a0), (1, .ref a1), (2, .int a2), (3, .int a3)] [] h cT
  unfold fX7_numberOf at hf
  refine sj_aload_n 0 dX7_numberOf_0 rfl ?_
  refine sj_aload_n 1 dX7_numberOf_1 rfl ?_
  obtain ⟨fs2, he2, hf⟩ := sd_isC_some hf
  refine sj_xV (rest := []) (fun _ _ _ e => sj_runV (n := 1) (As := [.ref a1]) (rest := []) (sX7_take_2 l hl G a0 a1 h _ _ _ e) he2 rfl rfl rfl rfl q1085 q1087 qs13 q134 q1088 (by decide +kernel) rfl rfl ⟨Nat.le_of_ble_eq_true rfl, Nat.le_of_ble_eq_true rfl⟩ rfl (Nat.le_of_ble_eq_true rfl) dX7_numberOf_2) hf (fun e2 h c hf => ?_) (fun h c hf => ?_)
  · exact sj_outX hf rfl (by intro x hx; cases hx)
  refine sj_aload_n 0 dX7_numberOf_5 rfl ?_
  refine sj_gets (v := .ref (sd_ad G 5)) 12 rfl rfl ⟨Or.inl q1025, rfl⟩ dX7_numberOf_6 ?_
  obtain ⟨fs9, he9, hf⟩ := sd_isC_some hf
  refine sj_xR (rest := []) (fun _ _ _ e => sj_runV (n := 1) (As := [.ref (sd_ad G 5)]) (rest := []) (sX7_take l hl G a0 (sd_ad G 5) h _ _ _ e) he9 rfl rfl rfl rfl q1026 q1028 qs9 q134 q1029 (by decide +kernel) rfl rfl ⟨Nat.le_of_ble_eq_true rfl, Nat.le_of_ble_eq_true rfl⟩ rfl (Nat.le_of_ble_eq_true rfl) dX7_numberOf_9) hf (fun e9 h c hf => ?_) (fun r1 h c hf => ?_)
  · exact sj_outX hf rfl (by intro x hx; cases hx)
  refine sj_astore [(4, .ref r1), (0, .ref a0), (1, .ref a1), (2, .int a2), (3, .int a3)] dX7_numberOf_12 (by decide) rfl ?_
  refine sj_aload_n 1 dX7_numberOf_14 rfl ?_
  refine sj_iconst (v := 5) dX7_numberOf_15 (by decide) ?_
  refine sj_aload 0 dX7_numberOf_16 rfl ?_
  obtain ⟨fs18, he18, hf⟩ := sd_isC_some hf
  refine sj_cI (rest := [.int 5, .ref a0]) (fun _ _ _ e => sj_runV (n := 0) (As := []) (rest := [.int 5, .ref a0]) (sX9_number l G r1 h _ _ _ e) he18 rfl rfl rfl rfl q1060 q1061 q1062 q136 q1063 (by decide +kernel) rfl rfl ⟨Nat.le_of_ble_eq_true rfl, Nat.le_of_ble_eq_true rfl⟩ rfl (Nat.le_of_ble_eq_true rfl) dX7_numberOf_18) hf (fun r2 h c hf => ?_)
  refine sj_iload_n 3 dX7_numberOf_21 rfl ?_
  refine sj_iclt 38 hf dX7_numberOf_22 (by decide) (fun g22 hf => ?_) (fun g22 hf => ?_)
  · exact sj_loc [0] rfl (sX7_numberOf_b38 l hl G a0 a1 a2 a3 ρ h2 cT r1 5 a0 _ _ hf)
  · refine sj_aload 0 dX7_numberOf_25 rfl ?_
    obtain ⟨fs27, he27, hf⟩ := sd_isC_some hf
    refine sj_cI (rest := [.int 5, .ref a0]) (fun _ _ _ e => sj_runV (n := 0) (As := []) (rest := [.int 5, .ref a0]) (sX9_number l G r1 h _ _ _ e) he27 rfl rfl rfl rfl q1060 q1061 q1062 q136 q1063 (by decide +kernel) rfl rfl ⟨Nat.le_of_ble_eq_true rfl, Nat.le_of_ble_eq_true rfl⟩ rfl (Nat.le_of_ble_eq_true rfl) dX7_numberOf_27) hf (fun r4 h c hf => ?_)
    refine sj_iload_n 4 dX7_numberOf_30 rfl ?_
    refine sj_icgt 38 hf dX7_numberOf_31 (by decide) (fun g31 hf => ?_) (fun g31 hf => ?_)
    · exact sj_loc [0] rfl (sX7_numberOf_b38 l hl G a0 a1 a2 a3 ρ h2 cT r1 5 a0 _ _ hf)
    · refine sj_iconst (v := 1) dX7_numberOf_34 (by decide) ?_
      refine sj_goto 39 dX7_numberOf_35 (by decide) ?_
      exact sj_loc [0] rfl (sX7_numberOf_b39 l hl G a0 a1 a2 a3 ρ h2 cT r1 1 5 a0 _ _ hf)
/-! SofaDig$Reader.name(Ljava/util/HashMap;I)Ljava/lang/String; -/
abbrev cX7_name : ByteArray := prog_18_method_11_code
def yX7_name : MethodName := ⟨RX7, "name", "(Ljava/util/HashMap;I)Ljava/lang/String;"⟩
def dkwX7_name_2 : List UInt8 := [182, 0, 95, 45, 180, 0, 87, 176]
abbrev dktX7_name_2 : List UInt8 := dkwX7_name_2 ++ []
def dkwX7_name_1 : List UInt8 := [167, 0, 4, 3, 45, 182, 0, 95, 42, 7, 43, 182, 0, 99, 28, 162, 0, 7, 4, 167, 0, 4, 3, 45]
abbrev dktX7_name_1 : List UInt8 := dkwX7_name_1 ++ dktX7_name_2
def dkwX7_name_0 : List UInt8 := [42, 178, 0, 79, 182, 0, 84, 78, 42, 5, 43, 45, 180, 0, 87, 182, 0, 91, 154, 0, 7, 4]
abbrev dktX7_name_0 : List UInt8 := dkwX7_name_0 ++ dktX7_name_1
theorem dksX7_name_0 : cX7_name.data.toList.drop 0 = dktX7_name_0 := by decide +kernel
theorem dksX7_name_1 : cX7_name.data.toList.drop 22 = dktX7_name_1 := dk_seg dksX7_name_0 22 rfl rfl
theorem dksX7_name_2 : cX7_name.data.toList.drop 46 = dktX7_name_2 := dk_seg dksX7_name_1 24 rfl rfl
theorem dX7_name_0 : decode cX7_name 0 = .ok (.aload_n 0, 1) := dk_42 (dk_at dksX7_name_0 0 rfl rfl)
theorem dX7_name_1 : decode cX7_name 1 = .ok (.getstatic 79, 3) := dk_178 0 79 (dk_at dksX7_name_0 1 rfl rfl)
theorem dX7_name_4 : decode cX7_name 4 = .ok (.invokevirtual 84, 3) := dk_182 0 84 (dk_at dksX7_name_0 4 rfl rfl)
theorem dX7_name_7 : decode cX7_name 7 = .ok (.astore_n 3, 1) := dk_78 (dk_at dksX7_name_0 7 rfl rfl)
theorem dX7_name_8 : decode cX7_name 8 = .ok (.aload_n 0, 1) := dk_42 (dk_at dksX7_name_0 8 rfl rfl)
theorem dX7_name_9 : decode cX7_name 9 = .ok (.iconst 2, 1) := dk_5 (dk_at dksX7_name_0 9 rfl rfl)
theorem dX7_name_10 : decode cX7_name 10 = .ok (.aload_n 1, 1) := dk_43 (dk_at dksX7_name_0 10 rfl rfl)
theorem dX7_name_11 : decode cX7_name 11 = .ok (.aload_n 3, 1) := dk_45 (dk_at dksX7_name_0 11 rfl rfl)
theorem dX7_name_12 : decode cX7_name 12 = .ok (.getfield 87, 3) := dk_180 0 87 (dk_at dksX7_name_0 12 rfl rfl)
theorem dX7_name_15 : decode cX7_name 15 = .ok (.invokevirtual 91, 3) := dk_182 0 91 (dk_at dksX7_name_0 15 rfl rfl)
theorem dX7_name_18 : decode cX7_name 18 = .ok (.ifCond .ne 7, 3) := dk_154 0 7 (dk_at dksX7_name_0 18 rfl rfl)
theorem dX7_name_21 : decode cX7_name 21 = .ok (.iconst 1, 1) := dk_4 (dk_at dksX7_name_0 21 rfl rfl)
theorem dX7_name_22 : decode cX7_name 22 = .ok (.goto 4, 3) := dk_167 0 4 (dk_at dksX7_name_1 0 rfl rfl)
theorem dX7_name_25 : decode cX7_name 25 = .ok (.iconst 0, 1) := dk_3 (dk_at dksX7_name_1 3 rfl rfl)
theorem dX7_name_26 : decode cX7_name 26 = .ok (.aload_n 3, 1) := dk_45 (dk_at dksX7_name_1 4 rfl rfl)
theorem dX7_name_27 : decode cX7_name 27 = .ok (.invokevirtual 95, 3) := dk_182 0 95 (dk_at dksX7_name_1 5 rfl rfl)
theorem dX7_name_30 : decode cX7_name 30 = .ok (.aload_n 0, 1) := dk_42 (dk_at dksX7_name_1 8 rfl rfl)
theorem dX7_name_31 : decode cX7_name 31 = .ok (.iconst 4, 1) := dk_7 (dk_at dksX7_name_1 9 rfl rfl)
theorem dX7_name_32 : decode cX7_name 32 = .ok (.aload_n 1, 1) := dk_43 (dk_at dksX7_name_1 10 rfl rfl)
theorem dX7_name_33 : decode cX7_name 33 = .ok (.invokevirtual 99, 3) := dk_182 0 99 (dk_at dksX7_name_1 11 rfl rfl)
theorem dX7_name_36 : decode cX7_name 36 = .ok (.iload_n 2, 1) := dk_28 (dk_at dksX7_name_1 14 rfl rfl)
theorem dX7_name_37 : decode cX7_name 37 = .ok (.if_icmp .ge 7, 3) := dk_162 0 7 (dk_at dksX7_name_1 15 rfl rfl)
theorem dX7_name_40 : decode cX7_name 40 = .ok (.iconst 1, 1) := dk_4 (dk_at dksX7_name_1 18 rfl rfl)
theorem dX7_name_41 : decode cX7_name 41 = .ok (.goto 4, 3) := dk_167 0 4 (dk_at dksX7_name_1 19 rfl rfl)
theorem dX7_name_44 : decode cX7_name 44 = .ok (.iconst 0, 1) := dk_3 (dk_at dksX7_name_1 22 rfl rfl)
theorem dX7_name_45 : decode cX7_name 45 = .ok (.aload_n 3, 1) := dk_45 (dk_at dksX7_name_1 23 rfl rfl)
theorem dX7_name_46 : decode cX7_name 46 = .ok (.invokevirtual 95, 3) := dk_182 0 95 (dk_at dksX7_name_2 0 rfl rfl)
theorem dX7_name_49 : decode cX7_name 49 = .ok (.aload_n 3, 1) := dk_45 (dk_at dksX7_name_2 3 rfl rfl)
theorem dX7_name_50 : decode cX7_name 50 = .ok (.getfield 87, 3) := dk_180 0 87 (dk_at dksX7_name_2 4 rfl rfl)
theorem dX7_name_53 : decode cX7_name 53 = .ok (.areturn, 1) := dk_176 (dk_at dksX7_name_2 7 rfl rfl)
theorem fdX7_87_8 : sd_Fd "SofaDig$Reader" 87 8 1 := ⟨(RX9, TX9, 3), "SofaDig$Token", rfl, by decide, rfl, in_X9, Or.inl rfl, Or.inr ⟨_, q507⟩⟩
abbrev mX7_name : sd_Y := (yX7_name, cX7_name, 4, some (.object "java/lang/String"), none)
def fX7_name_b26 (G : sd_G) (w0 : Nat) (w1 : Nat) (w2 : Int32) (w3 : Nat) (y0 : Int32) (y1 : Int32) (y2 : Nat) : sd_M (Nat ⊕ Nat) :=
  sd_bnd (sd_isC G 6 y2) fun _ =>
  sd_bx (fX7_check G y2 y1 y0 w3) (fun e27 =>
    sd_ret (.inr e27)) fun _ =>
  sd_bnd (sd_isC G 43 w1) fun _ =>
  sd_bnd (fJ22_size G w1) fun r4 =>
  if w2 ≤ r4 then (
    sd_bnd (sd_isC G 6 w0) fun _ =>
    sd_bx (fX7_check G w0 4 0 w3) (fun e46 =>
      sd_ret (.inr e46)) fun _ =>
    sd_bnd (sd_getR G 8 1 w3) fun v5 =>
    sd_ret (.inl v5))
  else (
    sd_bnd (sd_isC G 6 w0) fun _ =>
    sd_bx (fX7_check G w0 4 1 w3) (fun e46 =>
      sd_ret (.inr e46)) fun _ =>
    sd_bnd (sd_getR G 8 1 w3) fun v6 =>
    sd_ret (.inl v6))
set_option maxHeartbeats 4000000 in
theorem sX7_name_b26 (l : Launch) (hl : l.stackTraces = false) (G : sd_G) (a0 : Nat) (a1 : Nat) (a2 : Int32) (ρ : Nat ⊕ Nat) (h2 : sd_H) (cT : Nat × Nat) (w0 : Nat) (w1 : Nat) (w2 : Int32) (w3 : Nat) (y0 : Int32) (y1 : Int32) (y2 : Nat) (h : sd_H) (c : Nat × Nat) (hf : fX7_name_b26 G w0 w1 w2 w3 y0 y1 y2 h = some (ρ, c, h2)) : sd_J mX7_name ((l, G), (7, 159), [.ref a0, .ref a1, .int a2], ((sd_ox sd_oR) ρ, h2), cT) 26 [(0, .ref w0), (1, .ref w1), (2, .int w2), (3, .ref w3)] [.int y0, .int y1, .ref y2] h c := by
  unfold fX7_name_b26 at hf
  refine sj_aload_n 3 dX7_name_26 rfl ?_
  obtain ⟨fs27, he27, hf⟩ := sd_isC_some hf
  refine sj_xV (rest := []) (fun _ _ _ e => sj_runV (n := 3) (As := [.int y1, .int y0, .ref w3]) (rest := []) (sX7_check l hl G y2 y1 y0 w3 h _ _ _ e) he27 rfl rfl rfl rfl q1076 q1078 qs11 q134 q1079 (by decide +kernel) rfl rfl ⟨Nat.le_of_ble_eq_true rfl, Nat.le_of_ble_eq_true rfl⟩ rfl (Nat.le_of_ble_eq_true rfl) dX7_name_27) hf (fun e27 h c hf => ?_) (fun h c hf => ?_)
  · exact sj_outX hf rfl (by intro x hx; cases hx)
  refine sj_aload_n 0 dX7_name_30 rfl ?_
  refine sj_iconst (v := 4) dX7_name_31 (by decide) ?_
  refine sj_aload_n 1 dX7_name_32 rfl ?_
  obtain ⟨fs33, he33, hf⟩ := sd_isC_some hf
  refine sj_cI (rest := [.int 4, .ref w0]) (fun _ _ _ e => sj_runV (n := 0) (As := []) (rest := [.int 4, .ref w0]) (sJ22_size l G w1 h _ _ _ e) he33 rfl rfl rfl rfl q1615 q1616 q1617 q149 q1618 (by decide +kernel) rfl rfl ⟨Nat.le_of_ble_eq_true rfl, Nat.le_of_ble_eq_true rfl⟩ rfl (Nat.le_of_ble_eq_true rfl) dX7_name_33) hf (fun r4 h c hf => ?_)
  refine sj_iload_n 2 dX7_name_36 rfl ?_
  refine sj_icge 44 hf dX7_name_37 (by decide) (fun g37 hf => ?_) (fun g37 hf => ?_)
  · refine sj_iconst (v := 0) dX7_name_44 (by decide) ?_
    refine sj_aload_n 3 dX7_name_45 rfl ?_
    obtain ⟨fs46, he46, hf⟩ := sd_isC_some hf
    refine sj_xV (rest := []) (fun _ _ _ e => sj_runV (n := 3) (As := [.int 4, .int 0, .ref w3]) (rest := []) (sX7_check l hl G w0 4 0 w3 h _ _ _ e) he46 rfl rfl rfl rfl q1076 q1078 qs11 q134 q1079 (by decide +kernel) rfl rfl ⟨Nat.le_of_ble_eq_true rfl, Nat.le_of_ble_eq_true rfl⟩ rfl (Nat.le_of_ble_eq_true rfl) dX7_name_46) hf (fun e46 h c hf => ?_) (fun h c hf => ?_)
    · exact sj_outX hf rfl (by intro x hx; cases hx)
    refine sj_aload_n 3 dX7_name_49 rfl ?_
    refine sj_getR fdX7_87_8 hf dX7_name_50 (fun v5 hf => ?_)
    exact sj_aret (o := (sd_ox sd_oR)) hf rfl rfl rfl (Or.inl ⟨_, rfl⟩) dX7_name_53
  · refine sj_iconst (v := 1) dX7_name_40 (by decide) ?_
    refine sj_goto 45 dX7_name_41 (by decide) ?_
    refine sj_aload_n 3 dX7_name_45 rfl ?_
    obtain ⟨fs46, he46, hf⟩ := sd_isC_some hf
    refine sj_xV (rest := []) (fun _ _ _ e => sj_runV (n := 3) (As := [.int 4, .int 1, .ref w3]) (rest := []) (sX7_check l hl G w0 4 1 w3 h _ _ _ e) he46 rfl rfl rfl rfl q1076 q1078 qs11 q134 q1079 (by decide +kernel) rfl rfl ⟨Nat.le_of_ble_eq_true rfl, Nat.le_of_ble_eq_true rfl⟩ rfl (Nat.le_of_ble_eq_true rfl) dX7_name_46) hf (fun e46 h c hf => ?_) (fun h c hf => ?_)
    · exact sj_outX hf rfl (by intro x hx; cases hx)
    refine sj_aload_n 3 dX7_name_49 rfl ?_
    refine sj_getR fdX7_87_8 hf dX7_name_50 (fun v6 hf => ?_)
    exact sj_aret (o := (sd_ox sd_oR)) hf rfl rfl rfl (Or.inl ⟨_, rfl⟩) dX7_name_53
def fX7_name (G : sd_G) (a0 : Nat) (a1 : Nat) (a2 : Int32) : sd_M (Nat ⊕ Nat) :=
  sd_bnd (sd_isC G 6 a0) fun _ =>
  sd_bx (fX7_take G a0 (sd_ad G 4)) (fun e4 =>
    sd_ret (.inr e4)) fun r1 =>
  sd_bnd (sd_getR G 8 1 r1) fun v2 =>
  sd_bnd (sd_isC G 43 a1) fun _ =>
  sd_bnd (fJ22_containsKey G a1 v2) fun r3 =>
  if r3 = 0 then (
    fX7_name_b26 G a0 a1 a2 r1 1 2 a0)
  else (
    fX7_name_b26 G a0 a1 a2 r1 0 2 a0)
set_option maxHeartbeats 4000000 in
theorem sX7_name (l : Launch) (hl : l.stackTraces = false) (G : sd_G) (a0 : Nat) (a1 : Nat) (a2 : Int32) (h : sd_H) (ρ : Nat ⊕ Nat) (cT : Nat × Nat) (h2 : sd_H) (hf : fX7_name G a0 a1 a2 h = some (ρ, cT, h2)) : sd_Met mX7_name ((l, G), (7, 159), [.ref a0, .ref a1, .int a2], ((sd_ox sd_oR) ρ, h2), cT) h := by
  refine sd_entry (plainFor_of_name rfl) rfl (Nat.le_of_ble_eq_true rfl) ?_
  show sd_J mX7_name ((l, G), (7, 159), [.ref a0, .ref a1, .int a2], ((sd_ox sd_oR) ρ, h2), cT) 0 [(0, .ref a0), (1, .ref a1), (2, .int a2)] [] h cT
  unfold fX7_name at hf
  refine sj_aload_n 0 dX7_name_0 rfl ?_
  refine sj_gets (v := .ref (sd_ad G 4)) 11 rfl rfl ⟨Or.inl q1105, rfl⟩ dX7_name_1 ?_
  obtain ⟨fs4, he4, hf⟩ := sd_isC_some hf
  refine sj_xR (rest := []) (fun _ _ _ e => sj_runV (n := 1) (As := [.ref (sd_ad G 4)]) (rest := []) (sX7_take l hl G a0 (sd_ad G 4) h _ _ _ e) he4 rfl rfl rfl rfl q1026 q1028 qs9 q134 q1029 (by decide +kernel) rfl rfl ⟨Nat.le_of_ble_eq_true rfl, Nat.le_of_ble_eq_true rfl⟩ rfl (Nat.le_of_ble_eq_true rfl) dX7_name_4) hf (fun e4 h c hf => ?_) (fun r1 h c hf => ?_)
  · exact sj_outX hf rfl (by intro x hx; cases hx)
  refine sj_astore_n [(3, .ref r1), (0, .ref a0), (1, .ref a1), (2, .int a2)] dX7_name_7 (by decide) rfl ?_
  refine sj_aload_n 1 dX7_name_8 rfl ?_
  refine sj_iconst (v := 2) dX7_name_9 (by decide) ?_
  refine sj_aload_n 2 dX7_name_10 rfl ?_
  refine sj_aload_n 0 dX7_name_11 rfl ?_
  refine sj_getR fdX7_87_8 hf dX7_name_12 (fun v2 hf => ?_)
  obtain ⟨fs15, he15, hf⟩ := sd_isC_some hf
  refine sj_cI (rest := [.int 2, .ref a0]) (fun _ _ _ e => sj_runV (n := 1) (As := [.ref v2]) (rest := [.int 2, .ref a0]) (sJ22_containsKey l G a1 v2 h _ _ _ e) he15 rfl rfl rfl rfl q1106 q1107 q1108 q149 q1109 (by decide +kernel) rfl rfl ⟨Nat.le_of_ble_eq_true rfl, Nat.le_of_ble_eq_true rfl⟩ rfl (Nat.le_of_ble_eq_true rfl) dX7_name_15) hf (fun r3 h c hf => ?_)
  refine sj_ifne 25 hf dX7_name_18 (by decide) (fun g18 hf => ?_) (fun g18 hf => ?_)
  · refine sj_iconst (v := 0) dX7_name_25 (by decide) ?_
    exact sj_loc [1, 2, 3, 0] rfl (sX7_name_b26 l hl G a0 a1 a2 ρ h2 cT a0 a1 a2 r1 0 2 a0 _ _ hf)
  · refine sj_iconst (v := 1) dX7_name_21 (by decide) ?_
    refine sj_goto 26 dX7_name_22 (by decide) ?_
    exact sj_loc [1, 2, 3, 0] rfl (sX7_name_b26 l hl G a0 a1 a2 ρ h2 cT a0 a1 a2 r1 1 2 a0 _ _ hf)
/-! SofaDig$Reader.put(Ljava/util/HashMap;Ljava/lang/String;)V -/
abbrev cX7_put : ByteArray := prog_18_method_12_code
def yX7_put : MethodName := ⟨RX7, "put", "(Ljava/util/HashMap;Ljava/lang/String;)V"⟩
def dkwX7_put_0 : List UInt8 := [42, 180, 0, 75, 153, 0, 16, 43, 44, 43, 182, 0, 99, 184, 0, 103, 182, 0, 109, 87, 177]
abbrev dktX7_put_0 : List UInt8 := dkwX7_put_0 ++ []
theorem dksX7_put_0 : cX7_put.data.toList.drop 0 = dktX7_put_0 := by decide +kernel
theorem dX7_put_0 : decode cX7_put 0 = .ok (.aload_n 0, 1) := dk_42 (dk_at dksX7_put_0 0 rfl rfl)
theorem dX7_put_1 : decode cX7_put 1 = .ok (.getfield 75, 3) := dk_180 0 75 (dk_at dksX7_put_0 1 rfl rfl)
theorem dX7_put_4 : decode cX7_put 4 = .ok (.ifCond .eq 16, 3) := dk_153 0 16 (dk_at dksX7_put_0 4 rfl rfl)
theorem dX7_put_7 : decode cX7_put 7 = .ok (.aload_n 1, 1) := dk_43 (dk_at dksX7_put_0 7 rfl rfl)
theorem dX7_put_8 : decode cX7_put 8 = .ok (.aload_n 2, 1) := dk_44 (dk_at dksX7_put_0 8 rfl rfl)
theorem dX7_put_9 : decode cX7_put 9 = .ok (.aload_n 1, 1) := dk_43 (dk_at dksX7_put_0 9 rfl rfl)
theorem dX7_put_10 : decode cX7_put 10 = .ok (.invokevirtual 99, 3) := dk_182 0 99 (dk_at dksX7_put_0 10 rfl rfl)
theorem dX7_put_13 : decode cX7_put 13 = .ok (.invokestatic 103, 3) := dk_184 0 103 (dk_at dksX7_put_0 13 rfl rfl)
theorem dX7_put_16 : decode cX7_put 16 = .ok (.invokevirtual 109, 3) := dk_182 0 109 (dk_at dksX7_put_0 16 rfl rfl)
theorem dX7_put_19 : decode cX7_put 19 = .ok (.pop, 1) := dk_87 (dk_at dksX7_put_0 19 rfl rfl)
theorem dX7_put_20 : decode cX7_put 20 = .ok (.return_, 1) := dk_177 (dk_at dksX7_put_0 20 rfl rfl)
abbrev mX7_put : sd_Y := (yX7_put, cX7_put, 3, none, none)
def fX7_put (G : sd_G) (a0 : Nat) (a1 : Nat) (a2 : Nat) : sd_M Unit :=
  sd_bnd (sd_getI G 6 3 a0) fun v1 =>
  if v1 = 0 then (
    sd_ret ())
  else (
    sd_bnd (sd_isC G 43 a1) fun _ =>
    sd_bnd (fJ22_size G a1) fun r2 =>
    sd_bnd (fJ19_valueOf G r2) fun r3 =>
    sd_bnd (sd_isC G 43 a1) fun _ =>
    sd_bnd (fJ22_put G a1 a2 r3) fun r4 =>
    sd_ret ())
set_option maxHeartbeats 4000000 in
theorem sX7_put (l : Launch) (G : sd_G) (a0 : Nat) (a1 : Nat) (a2 : Nat) (h : sd_H) (ρ : Unit) (cT : Nat × Nat) (h2 : sd_H) (hf : fX7_put G a0 a1 a2 h = some (ρ, cT, h2)) : sd_Met mX7_put ((l, G), (6, 133), [.ref a0, .ref a1, .ref a2], (sd_oV ρ, h2), cT) h := by
  refine sd_entry (plainFor_of_name rfl) rfl (Nat.le_of_ble_eq_true rfl) ?_
  show sd_J mX7_put ((l, G), (6, 133), [.ref a0, .ref a1, .ref a2], (sd_oV ρ, h2), cT) 0 [(0, .ref a0), (1, .ref a1), (2, .ref a2)] [] h cT
  unfold fX7_put at hf
  refine sj_aload_n 0 dX7_put_0 rfl ?_
  refine sj_getI fdX7_75_6 hf dX7_put_1 (fun v1 hf => ?_)
  refine sj_ifeq 20 hf dX7_put_4 (by decide) (fun g4 hf => ?_) (fun g4 hf => ?_)
  · exact sj_vret (o := sd_oV) hf rfl rfl rfl dX7_put_20
  · refine sj_aload_n 1 dX7_put_7 rfl ?_
    refine sj_aload_n 2 dX7_put_8 rfl ?_
    refine sj_aload_n 1 dX7_put_9 rfl ?_
    obtain ⟨fs10, he10, hf⟩ := sd_isC_some hf
    refine sj_cI (rest := [.ref a2, .ref a1]) (fun _ _ _ e => sj_runV (n := 0) (As := []) (rest := [.ref a2, .ref a1]) (sJ22_size l G a1 h _ _ _ e) he10 rfl rfl rfl rfl q1615 q1616 q1617 q149 q1618 (by decide +kernel) rfl rfl ⟨Nat.le_of_ble_eq_true rfl, Nat.le_of_ble_eq_true rfl⟩ rfl (Nat.le_of_ble_eq_true rfl) dX7_put_10) hf (fun r2 h c hf => ?_)
    refine sj_cR (rest := [.ref a2, .ref a1]) (fun _ _ _ e => sj_runS (n := 1) (rest := [.ref a2, .ref a1]) (sJ19_valueOf l G r2 h _ _ _ e) rfl rfl q1643 q1644 q146 q1645 (by decide +kernel) rfl ⟨Nat.le_of_ble_eq_true rfl, Nat.le_of_ble_eq_true rfl⟩ rfl (Nat.le_of_ble_eq_true rfl) dX7_put_13) hf (fun r3 h c hf => ?_)
    obtain ⟨fs16, he16, hf⟩ := sd_isC_some hf
    refine sj_cQ (rest := []) (fun _ _ _ e => sj_runV (n := 2) (As := [.ref a2, .ref r3]) (rest := []) (sJ22_put l G a1 a2 r3 h _ _ _ e) he16 rfl rfl rfl rfl q1662 q1663 q1664 q149 q1665 (by decide +kernel) rfl rfl ⟨Nat.le_of_ble_eq_true rfl, Nat.le_of_ble_eq_true rfl⟩ rfl (Nat.le_of_ble_eq_true rfl) dX7_put_16) hf (fun r4 h c hf => ?_)
    refine sj_pop dX7_put_19 (sd_cat1 _) ?_
    exact sj_vret (o := sd_oV) hf rfl rfl rfl dX7_put_20
/-! SofaDig$Reader.empire()V -/
abbrev cX7_empire : ByteArray := prog_18_method_18_code
def yX7_empire : MethodName := ⟨RX7, "empire", "()V"⟩
def dkwX7_empire_2 : List UInt8 := [182, 0, 193, 87, 42, 42, 180, 0, 21, 43, 182, 0, 198, 177]
abbrev dktX7_empire_2 : List UInt8 := dkwX7_empire_2 ++ []
def dkwX7_empire_1 : List UInt8 := [180, 0, 12, 180, 0, 185, 187, 0, 188, 89, 28, 42, 18, 190, 28, 17, 3, 231, 182, 0, 134, 183, 0, 192]
abbrev dktX7_empire_1 : List UInt8 := dkwX7_empire_1 ++ dktX7_empire_2
def dkwX7_empire_0 : List UInt8 := [42, 42, 180, 0, 21, 16, 6, 182, 0, 179, 76, 42, 18, 183, 3, 17, 3, 231, 182, 0, 134, 61, 42]
abbrev dktX7_empire_0 : List UInt8 := dkwX7_empire_0 ++ dktX7_empire_1
theorem dksX7_empire_0 : cX7_empire.data.toList.drop 0 = dktX7_empire_0 := by decide +kernel
theorem dksX7_empire_1 : cX7_empire.data.toList.drop 23 = dktX7_empire_1 := dk_seg dksX7_empire_0 23 rfl rfl
theorem dksX7_empire_2 : cX7_empire.data.toList.drop 47 = dktX7_empire_2 := dk_seg dksX7_empire_1 24 rfl rfl
theorem dX7_empire_0 : decode cX7_empire 0 = .ok (.aload_n 0, 1) := dk_42 (dk_at dksX7_empire_0 0 rfl rfl)
theorem dX7_empire_1 : decode cX7_empire 1 = .ok (.aload_n 0, 1) := dk_42 (dk_at dksX7_empire_0 1 rfl rfl)
theorem dX7_empire_2 : decode cX7_empire 2 = .ok (.getfield 21, 3) := dk_180 0 21 (dk_at dksX7_empire_0 2 rfl rfl)
theorem dX7_empire_5 : decode cX7_empire 5 = .ok (.bipush 6, 2) := dk_16 6 (dk_at dksX7_empire_0 5 rfl rfl)
theorem dX7_empire_7 : decode cX7_empire 7 = .ok (.invokevirtual 179, 3) := dk_182 0 179 (dk_at dksX7_empire_0 7 rfl rfl)
theorem dX7_empire_10 : decode cX7_empire 10 = .ok (.astore_n 1, 1) := dk_76 (dk_at dksX7_empire_0 10 rfl rfl)
theorem dX7_empire_11 : decode cX7_empire 11 = .ok (.aload_n 0, 1) := dk_42 (dk_at dksX7_empire_0 11 rfl rfl)
theorem dX7_empire_12 : decode cX7_empire 12 = .ok (.ldc 183, 2) := dk_18 183 (dk_at dksX7_empire_0 12 rfl rfl)
theorem dX7_empire_14 : decode cX7_empire 14 = .ok (.iconst 0, 1) := dk_3 (dk_at dksX7_empire_0 14 rfl rfl)
theorem dX7_empire_15 : decode cX7_empire 15 = .ok (.sipush 999, 3) := dk_17 3 231 (dk_at dksX7_empire_0 15 rfl rfl)
theorem dX7_empire_18 : decode cX7_empire 18 = .ok (.invokevirtual 134, 3) := dk_182 0 134 (dk_at dksX7_empire_0 18 rfl rfl)
theorem dX7_empire_21 : decode cX7_empire 21 = .ok (.istore_n 2, 1) := dk_61 (dk_at dksX7_empire_0 21 rfl rfl)
theorem dX7_empire_22 : decode cX7_empire 22 = .ok (.aload_n 0, 1) := dk_42 (dk_at dksX7_empire_0 22 rfl rfl)
theorem dX7_empire_23 : decode cX7_empire 23 = .ok (.getfield 12, 3) := dk_180 0 12 (dk_at dksX7_empire_1 0 rfl rfl)
theorem dX7_empire_26 : decode cX7_empire 26 = .ok (.getfield 185, 3) := dk_180 0 185 (dk_at dksX7_empire_1 3 rfl rfl)
theorem dX7_empire_29 : decode cX7_empire 29 = .ok (.new 188, 3) := dk_187 0 188 (dk_at dksX7_empire_1 6 rfl rfl)
theorem dX7_empire_32 : decode cX7_empire 32 = .ok (.dup, 1) := dk_89 (dk_at dksX7_empire_1 9 rfl rfl)
theorem dX7_empire_33 : decode cX7_empire 33 = .ok (.iload_n 2, 1) := dk_28 (dk_at dksX7_empire_1 10 rfl rfl)
theorem dX7_empire_34 : decode cX7_empire 34 = .ok (.aload_n 0, 1) := dk_42 (dk_at dksX7_empire_1 11 rfl rfl)
theorem dX7_empire_35 : decode cX7_empire 35 = .ok (.ldc 190, 2) := dk_18 190 (dk_at dksX7_empire_1 12 rfl rfl)
theorem dX7_empire_37 : decode cX7_empire 37 = .ok (.iload_n 2, 1) := dk_28 (dk_at dksX7_empire_1 14 rfl rfl)
theorem dX7_empire_38 : decode cX7_empire 38 = .ok (.sipush 999, 3) := dk_17 3 231 (dk_at dksX7_empire_1 15 rfl rfl)
theorem dX7_empire_41 : decode cX7_empire 41 = .ok (.invokevirtual 134, 3) := dk_182 0 134 (dk_at dksX7_empire_1 18 rfl rfl)
theorem dX7_empire_44 : decode cX7_empire 44 = .ok (.invokespecial 192, 3) := dk_183 0 192 (dk_at dksX7_empire_1 21 rfl rfl)
theorem dX7_empire_47 : decode cX7_empire 47 = .ok (.invokevirtual 193, 3) := dk_182 0 193 (dk_at dksX7_empire_2 0 rfl rfl)
theorem dX7_empire_50 : decode cX7_empire 50 = .ok (.pop, 1) := dk_87 (dk_at dksX7_empire_2 3 rfl rfl)
theorem dX7_empire_51 : decode cX7_empire 51 = .ok (.aload_n 0, 1) := dk_42 (dk_at dksX7_empire_2 4 rfl rfl)
theorem dX7_empire_52 : decode cX7_empire 52 = .ok (.aload_n 0, 1) := dk_42 (dk_at dksX7_empire_2 5 rfl rfl)
theorem dX7_empire_53 : decode cX7_empire 53 = .ok (.getfield 21, 3) := dk_180 0 21 (dk_at dksX7_empire_2 6 rfl rfl)
theorem dX7_empire_56 : decode cX7_empire 56 = .ok (.aload_n 1, 1) := dk_43 (dk_at dksX7_empire_2 9 rfl rfl)
theorem dX7_empire_57 : decode cX7_empire 57 = .ok (.invokevirtual 198, 3) := dk_182 0 198 (dk_at dksX7_empire_2 10 rfl rfl)
theorem dX7_empire_60 : decode cX7_empire 60 = .ok (.return_, 1) := dk_177 (dk_at dksX7_empire_2 13 rfl rfl)
theorem fdX7_21_6 : sd_Fd "SofaDig$Reader" 21 6 5 := ⟨(RX7, TX7, 6), "SofaDig$Reader", rfl, by decide, rfl, in_X7, Or.inl rfl, Or.inl q964⟩
theorem fdX7_12_6 : sd_Fd "SofaDig$Reader" 12 6 4 := ⟨(RX7, TX7, 6), "SofaDig$Reader", rfl, by decide, rfl, in_X7, Or.inl rfl, Or.inl q963⟩
theorem fdX7_185_2 : sd_Fd "SofaDig$Reader" 185 2 3 := ⟨(RX3, TX3, 12), "SofaDig$Sofa", rfl, by decide, rfl, in_X3, Or.inl rfl, Or.inr ⟨_, q253⟩⟩
theorem fnX7_188 : sd_Fn "SofaDig$Reader" 188 10 2 [.int 0, .int 0] := ⟨(RX11, TX11, 2), tyX11, rfl, rfl, in_X11, q1620, q1621, q155, tyX11_ok, fun j hj => by revert j; decide⟩
abbrev mX7_empire : sd_Y := (yX7_empire, cX7_empire, 3, none, none)
def fX7_empire (G : sd_G) (a0 : Nat) : sd_M (Unit ⊕ Nat) :=
  sd_bnd (sd_getR G 6 5 a0) fun v1 =>
  sd_bnd (sd_isC G 6 a0) fun _ =>
  sd_bx (fX7_name G a0 v1 6) (fun e7 =>
    sd_ret (.inr e7)) fun r2 =>
  sd_bnd (sd_isC G 6 a0) fun _ =>
  sd_bx (fX7_numberOf G a0 (sd_ad G 108) 0 999) (fun e18 =>
    sd_ret (.inr e18)) fun r3 =>
  sd_bnd (sd_getR G 6 4 a0) fun v4 =>
  sd_bnd (sd_getR G 2 3 v4) fun v5 =>
  sd_bnd (sd_new 10 2 [.int 0, .int 0]) fun o6 =>
  sd_bnd (sd_isC G 6 a0) fun _ =>
  sd_bx (fX7_numberOf G a0 (sd_ad G 109) r3 999) (fun e41 =>
    sd_ret (.inr e41)) fun r7 =>
  sd_bnd (fX11_init G o6 r3 r7) fun _ =>
  sd_bnd (sd_isC G 41 v5) fun _ =>
  sd_bnd (fJ2_add G v5 o6) fun r8 =>
  sd_bnd (sd_getR G 6 5 a0) fun v9 =>
  sd_bnd (sd_isC G 6 a0) fun _ =>
  sd_bnd (fX7_put G a0 v9 r2) fun _ =>
  sd_ret (.inl ())
set_option maxHeartbeats 4000000 in
theorem sX7_empire (l : Launch) (hl : l.stackTraces = false) (G : sd_G) (a0 : Nat) (h : sd_H) (ρ : Unit ⊕ Nat) (cT : Nat × Nat) (h2 : sd_H) (hf : fX7_empire G a0 h = some (ρ, cT, h2)) : sd_Met mX7_empire ((l, G), (8, 182), [.ref a0], ((sd_ox sd_oV) ρ, h2), cT) h := by
  refine sd_entry (plainFor_of_name rfl) rfl (Nat.le_of_ble_eq_true rfl) ?_
  show sd_J mX7_empire ((l, G), (8, 182), [.ref a0], ((sd_ox sd_oV) ρ, h2), cT) 0 [(0, .ref a0)] [] h cT
  unfold fX7_empire at hf
  refine sj_aload_n 0 dX7_empire_0 rfl ?_
  refine sj_aload_n 0 dX7_empire_1 rfl ?_
  refine sj_getR fdX7_21_6 hf dX7_empire_2 (fun v1 hf => ?_)
  refine sj_bipush (v := 6) dX7_empire_5 (by decide) ?_
  obtain ⟨fs7, he7, hf⟩ := sd_isC_some hf
  refine sj_xR (rest := []) (fun _ _ _ e => sj_runV (n := 2) (As := [.ref v1, .int 6]) (rest := []) (sX7_name l hl G a0 v1 6 h _ _ _ e) he7 rfl rfl rfl rfl q1101 q1103 qs16 q134 q1104 (by decide +kernel) rfl rfl ⟨Nat.le_of_ble_eq_true rfl, Nat.le_of_ble_eq_true rfl⟩ rfl (Nat.le_of_ble_eq_true rfl) dX7_empire_7) hf (fun e7 h c hf => ?_) (fun r2 h c hf => ?_)
  · exact sj_outX hf rfl (by intro x hx; cases hx)
  refine sj_astore_n [(1, .ref r2), (0, .ref a0)] dX7_empire_10 (by decide) rfl ?_
  refine sj_aload_n 1 dX7_empire_11 rfl ?_
  refine sj_ldcS 8 rfl dX7_empire_12 ?_
  refine sj_iconst (v := 0) dX7_empire_14 (by decide) ?_
  refine sj_sipush (v := 999) dX7_empire_15 (by decide) ?_
  obtain ⟨fs18, he18, hf⟩ := sd_isC_some hf
  refine sj_xI (rest := []) (fun _ _ _ e => sj_runV (n := 3) (As := [.ref (sd_ad G 108), .int 0, .int 999]) (rest := []) (sX7_numberOf l hl G a0 (sd_ad G 108) 0 999 h _ _ _ e) he18 rfl rfl rfl rfl q1081 q1083 qs12 q134 q1084 (by decide +kernel) rfl rfl ⟨Nat.le_of_ble_eq_true rfl, Nat.le_of_ble_eq_true rfl⟩ rfl (Nat.le_of_ble_eq_true rfl) dX7_empire_18) hf (fun e18 h c hf => ?_) (fun r3 h c hf => ?_)
  · exact sj_outX hf rfl (by intro x hx; cases hx)
  refine sj_istore_n [(2, .int r3), (1, .ref r2), (0, .ref a0)] dX7_empire_21 (by decide) rfl ?_
  refine sj_aload_n 2 dX7_empire_22 rfl ?_
  refine sj_getR fdX7_12_6 hf dX7_empire_23 (fun v4 hf => ?_)
  refine sj_getR fdX7_185_2 hf dX7_empire_26 (fun v5 hf => ?_)
  refine sj_new fnX7_188 hf dX7_empire_29 (fun o6 h c hf => ?_)
  refine sj_dup dX7_empire_32 rfl ?_
  refine sj_iload_n 0 dX7_empire_33 rfl ?_
  refine sj_aload_n 2 dX7_empire_34 rfl ?_
  refine sj_ldcS 9 rfl dX7_empire_35 ?_
  refine sj_iload_n 0 dX7_empire_37 rfl ?_
  refine sj_sipush (v := 999) dX7_empire_38 (by decide) ?_
  obtain ⟨fs41, he41, hf⟩ := sd_isC_some hf
  refine sj_xI (rest := [.int r3, .ref o6, .ref o6, .ref v5]) (fun _ _ _ e => sj_runV (n := 3) (As := [.ref (sd_ad G 109), .int r3, .int 999]) (rest := [.int r3, .ref o6, .ref o6, .ref v5]) (sX7_numberOf l hl G a0 (sd_ad G 109) r3 999 h _ _ _ e) he41 rfl rfl rfl rfl q1081 q1083 qs12 q134 q1084 (by decide +kernel) rfl rfl ⟨Nat.le_of_ble_eq_true rfl, Nat.le_of_ble_eq_true rfl⟩ rfl (Nat.le_of_ble_eq_true rfl) dX7_empire_41) hf (fun e41 h c hf => ?_) (fun r7 h c hf => ?_)
  · exact sj_outX hf rfl (by intro x hx; cases hx)
  refine sj_cV (rest := [.ref o6, .ref v5]) (fun _ _ _ e => sj_runI (n := 2) (a := o6) (As := [.int r3, .int r7]) (rest := [.ref o6, .ref v5]) (sX11_init l G o6 r3 r7 h _ _ _ e) rfl rfl q1623 q1624 q155 q1625 rfl (by decide +kernel) rfl rfl (fun _ z => by cases z) ⟨Nat.le_of_ble_eq_true rfl, Nat.le_of_ble_eq_true rfl⟩ rfl (Nat.le_of_ble_eq_true rfl) dX7_empire_44) hf (fun h c hf => ?_)
  obtain ⟨fs47, he47, hf⟩ := sd_isC_some hf
  refine sj_cI (rest := []) (fun _ _ _ e => sj_runV (n := 1) (As := [.ref o6]) (rest := []) (sJ2_add l G v5 o6 h _ _ _ e) he47 rfl rfl rfl rfl q1638 q338 q339 q121 q340 (by decide +kernel) rfl rfl ⟨Nat.le_of_ble_eq_true rfl, Nat.le_of_ble_eq_true rfl⟩ rfl (Nat.le_of_ble_eq_true rfl) dX7_empire_47) hf (fun r8 h c hf => ?_)
  refine sj_pop dX7_empire_50 rfl ?_
  refine sj_aload_n 2 dX7_empire_51 rfl ?_
  refine sj_aload_n 2 dX7_empire_52 rfl ?_
  refine sj_getR fdX7_21_6 hf dX7_empire_53 (fun v9 hf => ?_)
  refine sj_aload_n 1 dX7_empire_56 rfl ?_
  obtain ⟨fs57, he57, hf⟩ := sd_isC_some hf
  refine sj_cV (rest := []) (fun _ _ _ e => sj_runV (n := 2) (As := [.ref v9, .ref r2]) (rest := []) (sX7_put l G a0 v9 r2 h _ _ _ e) he57 rfl rfl rfl rfl q1639 q1641 qs17 q134 q1642 (by decide +kernel) rfl rfl ⟨Nat.le_of_ble_eq_true rfl, Nat.le_of_ble_eq_true rfl⟩ rfl (Nat.le_of_ble_eq_true rfl) dX7_empire_57) hf (fun h c hf => ?_)
  exact sj_vret (o := (sd_ox sd_oV)) hf rfl rfl rfl dX7_empire_60
/-! SofaDig$Reader.place(Z)LSofaDig$Cushion; -/
abbrev cX7_place : ByteArray := prog_18_method_19_code
def yX7_place : MethodName := ⟨RX7, "place", "(Z)LSofaDig$Cushion;"⟩
def dkwX7_place_5 : List UInt8 := [182, 0, 95, 25, 5, 176]
abbrev dktX7_place_5 : List UInt8 := dkwX7_place_5 ++ []
def dkwX7_place_4 : List UInt8 := [180, 0, 212, 2, 159, 0, 14, 167, 0, 15, 25, 5, 180, 0, 171, 154, 0, 7, 4, 167, 0, 4, 3, 45]
abbrev dktX7_place_4 : List UInt8 := dkwX7_place_4 ++ dktX7_place_5
def dkwX7_place_3 : List UInt8 := [182, 0, 211, 192, 0, 194, 21, 4, 182, 0, 211, 192, 0, 172, 58, 5, 42, 5, 27, 153, 0, 15, 25, 5]
abbrev dktX7_place_3 : List UInt8 := dkwX7_place_3 ++ dktX7_place_4
def dkwX7_place_2 : List UInt8 := [42, 180, 0, 75, 154, 0, 12, 187, 0, 172, 89, 3, 183, 0, 205, 176, 42, 180, 0, 12, 180, 0, 208, 28]
abbrev dktX7_place_2 : List UInt8 := dkwX7_place_2 ++ dktX7_place_3
def dkwX7_place_1 : List UInt8 := [182, 0, 69, 42, 182, 0, 43, 78, 42, 3, 42, 180, 0, 12, 180, 0, 138, 4, 100, 182, 0, 127, 54, 4]
abbrev dktX7_place_1 : List UInt8 := dkwX7_place_1 ++ dktX7_place_2
def dkwX7_place_0 : List UInt8 := [42, 18, 201, 182, 0, 69, 42, 3, 42, 180, 0, 12, 180, 0, 130, 4, 100, 182, 0, 127, 61, 42, 18, 203]
abbrev dktX7_place_0 : List UInt8 := dkwX7_place_0 ++ dktX7_place_1
theorem dksX7_place_0 : cX7_place.data.toList.drop 0 = dktX7_place_0 := by decide +kernel
theorem dksX7_place_1 : cX7_place.data.toList.drop 24 = dktX7_place_1 := dk_seg dksX7_place_0 24 rfl rfl
theorem dksX7_place_2 : cX7_place.data.toList.drop 48 = dktX7_place_2 := dk_seg dksX7_place_1 24 rfl rfl
theorem dksX7_place_3 : cX7_place.data.toList.drop 72 = dktX7_place_3 := dk_seg dksX7_place_2 24 rfl rfl
theorem dksX7_place_4 : cX7_place.data.toList.drop 96 = dktX7_place_4 := dk_seg dksX7_place_3 24 rfl rfl
theorem dksX7_place_5 : cX7_place.data.toList.drop 120 = dktX7_place_5 := dk_seg dksX7_place_4 24 rfl rfl
theorem dX7_place_0 : decode cX7_place 0 = .ok (.aload_n 0, 1) := dk_42 (dk_at dksX7_place_0 0 rfl rfl)
theorem dX7_place_1 : decode cX7_place 1 = .ok (.ldc 201, 2) := dk_18 201 (dk_at dksX7_place_0 1 rfl rfl)
theorem dX7_place_3 : decode cX7_place 3 = .ok (.invokevirtual 69, 3) := dk_182 0 69 (dk_at dksX7_place_0 3 rfl rfl)
theorem dX7_place_6 : decode cX7_place 6 = .ok (.aload_n 0, 1) := dk_42 (dk_at dksX7_place_0 6 rfl rfl)
theorem dX7_place_7 : decode cX7_place 7 = .ok (.iconst 0, 1) := dk_3 (dk_at dksX7_place_0 7 rfl rfl)
theorem dX7_place_8 : decode cX7_place 8 = .ok (.aload_n 0, 1) := dk_42 (dk_at dksX7_place_0 8 rfl rfl)
theorem dX7_place_9 : decode cX7_place 9 = .ok (.getfield 12, 3) := dk_180 0 12 (dk_at dksX7_place_0 9 rfl rfl)
theorem dX7_place_12 : decode cX7_place 12 = .ok (.getfield 130, 3) := dk_180 0 130 (dk_at dksX7_place_0 12 rfl rfl)
theorem dX7_place_15 : decode cX7_place 15 = .ok (.iconst 1, 1) := dk_4 (dk_at dksX7_place_0 15 rfl rfl)
theorem dX7_place_16 : decode cX7_place 16 = .ok (.isub, 1) := dk_100 (dk_at dksX7_place_0 16 rfl rfl)
theorem dX7_place_17 : decode cX7_place 17 = .ok (.invokevirtual 127, 3) := dk_182 0 127 (dk_at dksX7_place_0 17 rfl rfl)
theorem dX7_place_20 : decode cX7_place 20 = .ok (.istore_n 2, 1) := dk_61 (dk_at dksX7_place_0 20 rfl rfl)
theorem dX7_place_21 : decode cX7_place 21 = .ok (.aload_n 0, 1) := dk_42 (dk_at dksX7_place_0 21 rfl rfl)
theorem dX7_place_22 : decode cX7_place 22 = .ok (.ldc 203, 2) := dk_18 203 (dk_at dksX7_place_0 22 rfl rfl)
theorem dX7_place_24 : decode cX7_place 24 = .ok (.invokevirtual 69, 3) := dk_182 0 69 (dk_at dksX7_place_1 0 rfl rfl)
theorem dX7_place_27 : decode cX7_place 27 = .ok (.aload_n 0, 1) := dk_42 (dk_at dksX7_place_1 3 rfl rfl)
theorem dX7_place_28 : decode cX7_place 28 = .ok (.invokevirtual 43, 3) := dk_182 0 43 (dk_at dksX7_place_1 4 rfl rfl)
theorem dX7_place_31 : decode cX7_place 31 = .ok (.astore_n 3, 1) := dk_78 (dk_at dksX7_place_1 7 rfl rfl)
theorem dX7_place_32 : decode cX7_place 32 = .ok (.aload_n 0, 1) := dk_42 (dk_at dksX7_place_1 8 rfl rfl)
theorem dX7_place_33 : decode cX7_place 33 = .ok (.iconst 0, 1) := dk_3 (dk_at dksX7_place_1 9 rfl rfl)
theorem dX7_place_34 : decode cX7_place 34 = .ok (.aload_n 0, 1) := dk_42 (dk_at dksX7_place_1 10 rfl rfl)
theorem dX7_place_35 : decode cX7_place 35 = .ok (.getfield 12, 3) := dk_180 0 12 (dk_at dksX7_place_1 11 rfl rfl)
theorem dX7_place_38 : decode cX7_place 38 = .ok (.getfield 138, 3) := dk_180 0 138 (dk_at dksX7_place_1 14 rfl rfl)
theorem dX7_place_41 : decode cX7_place 41 = .ok (.iconst 1, 1) := dk_4 (dk_at dksX7_place_1 17 rfl rfl)
theorem dX7_place_42 : decode cX7_place 42 = .ok (.isub, 1) := dk_100 (dk_at dksX7_place_1 18 rfl rfl)
theorem dX7_place_43 : decode cX7_place 43 = .ok (.invokevirtual 127, 3) := dk_182 0 127 (dk_at dksX7_place_1 19 rfl rfl)
theorem dX7_place_46 : decode cX7_place 46 = .ok (.istore 4, 2) := dk_54 4 (dk_at dksX7_place_1 22 rfl rfl)
theorem dX7_place_48 : decode cX7_place 48 = .ok (.aload_n 0, 1) := dk_42 (dk_at dksX7_place_2 0 rfl rfl)
theorem dX7_place_49 : decode cX7_place 49 = .ok (.getfield 75, 3) := dk_180 0 75 (dk_at dksX7_place_2 1 rfl rfl)
theorem dX7_place_52 : decode cX7_place 52 = .ok (.ifCond .ne 12, 3) := dk_154 0 12 (dk_at dksX7_place_2 4 rfl rfl)
theorem dX7_place_55 : decode cX7_place 55 = .ok (.new 172, 3) := dk_187 0 172 (dk_at dksX7_place_2 7 rfl rfl)
theorem dX7_place_58 : decode cX7_place 58 = .ok (.dup, 1) := dk_89 (dk_at dksX7_place_2 10 rfl rfl)
theorem dX7_place_59 : decode cX7_place 59 = .ok (.iconst 0, 1) := dk_3 (dk_at dksX7_place_2 11 rfl rfl)
theorem dX7_place_60 : decode cX7_place 60 = .ok (.invokespecial 205, 3) := dk_183 0 205 (dk_at dksX7_place_2 12 rfl rfl)
theorem dX7_place_63 : decode cX7_place 63 = .ok (.areturn, 1) := dk_176 (dk_at dksX7_place_2 15 rfl rfl)
theorem dX7_place_64 : decode cX7_place 64 = .ok (.aload_n 0, 1) := dk_42 (dk_at dksX7_place_2 16 rfl rfl)
theorem dX7_place_65 : decode cX7_place 65 = .ok (.getfield 12, 3) := dk_180 0 12 (dk_at dksX7_place_2 17 rfl rfl)
theorem dX7_place_68 : decode cX7_place 68 = .ok (.getfield 208, 3) := dk_180 0 208 (dk_at dksX7_place_2 20 rfl rfl)
theorem dX7_place_71 : decode cX7_place 71 = .ok (.iload_n 2, 1) := dk_28 (dk_at dksX7_place_2 23 rfl rfl)
theorem dX7_place_72 : decode cX7_place 72 = .ok (.invokevirtual 211, 3) := dk_182 0 211 (dk_at dksX7_place_3 0 rfl rfl)
theorem dX7_place_75 : decode cX7_place 75 = .ok (.checkcast 194, 3) := dk_192 0 194 (dk_at dksX7_place_3 3 rfl rfl)
theorem dX7_place_78 : decode cX7_place 78 = .ok (.iload 4, 2) := dk_21 4 (dk_at dksX7_place_3 6 rfl rfl)
theorem dX7_place_80 : decode cX7_place 80 = .ok (.invokevirtual 211, 3) := dk_182 0 211 (dk_at dksX7_place_3 8 rfl rfl)
theorem dX7_place_83 : decode cX7_place 83 = .ok (.checkcast 172, 3) := dk_192 0 172 (dk_at dksX7_place_3 11 rfl rfl)
theorem dX7_place_86 : decode cX7_place 86 = .ok (.astore 5, 2) := dk_58 5 (dk_at dksX7_place_3 14 rfl rfl)
theorem dX7_place_88 : decode cX7_place 88 = .ok (.aload_n 0, 1) := dk_42 (dk_at dksX7_place_3 16 rfl rfl)
theorem dX7_place_89 : decode cX7_place 89 = .ok (.iconst 2, 1) := dk_5 (dk_at dksX7_place_3 17 rfl rfl)
theorem dX7_place_90 : decode cX7_place 90 = .ok (.iload_n 1, 1) := dk_27 (dk_at dksX7_place_3 18 rfl rfl)
theorem dX7_place_91 : decode cX7_place 91 = .ok (.ifCond .eq 15, 3) := dk_153 0 15 (dk_at dksX7_place_3 19 rfl rfl)
theorem dX7_place_94 : decode cX7_place 94 = .ok (.aload 5, 2) := dk_25 5 (dk_at dksX7_place_3 22 rfl rfl)
theorem dX7_place_96 : decode cX7_place 96 = .ok (.getfield 212, 3) := dk_180 0 212 (dk_at dksX7_place_4 0 rfl rfl)
theorem dX7_place_99 : decode cX7_place 99 = .ok (.iconst (-1), 1) := dk_2 (dk_at dksX7_place_4 3 rfl rfl)
theorem dX7_place_100 : decode cX7_place 100 = .ok (.if_icmp .eq 14, 3) := dk_159 0 14 (dk_at dksX7_place_4 4 rfl rfl)
theorem dX7_place_103 : decode cX7_place 103 = .ok (.goto 15, 3) := dk_167 0 15 (dk_at dksX7_place_4 7 rfl rfl)
theorem dX7_place_106 : decode cX7_place 106 = .ok (.aload 5, 2) := dk_25 5 (dk_at dksX7_place_4 10 rfl rfl)
theorem dX7_place_108 : decode cX7_place 108 = .ok (.getfield 171, 3) := dk_180 0 171 (dk_at dksX7_place_4 12 rfl rfl)
theorem dX7_place_111 : decode cX7_place 111 = .ok (.ifCond .ne 7, 3) := dk_154 0 7 (dk_at dksX7_place_4 15 rfl rfl)
theorem dX7_place_114 : decode cX7_place 114 = .ok (.iconst 1, 1) := dk_4 (dk_at dksX7_place_4 18 rfl rfl)
theorem dX7_place_115 : decode cX7_place 115 = .ok (.goto 4, 3) := dk_167 0 4 (dk_at dksX7_place_4 19 rfl rfl)
theorem dX7_place_118 : decode cX7_place 118 = .ok (.iconst 0, 1) := dk_3 (dk_at dksX7_place_4 22 rfl rfl)
theorem dX7_place_119 : decode cX7_place 119 = .ok (.aload_n 3, 1) := dk_45 (dk_at dksX7_place_4 23 rfl rfl)
theorem dX7_place_120 : decode cX7_place 120 = .ok (.invokevirtual 95, 3) := dk_182 0 95 (dk_at dksX7_place_5 0 rfl rfl)
theorem dX7_place_123 : decode cX7_place 123 = .ok (.aload 5, 2) := dk_25 5 (dk_at dksX7_place_5 3 rfl rfl)
theorem dX7_place_125 : decode cX7_place 125 = .ok (.areturn, 1) := dk_176 (dk_at dksX7_place_5 5 rfl rfl)
theorem fdX7_130_2 : sd_Fd "SofaDig$Reader" 130 2 1 := ⟨(RX3, TX3, 12), "SofaDig$Sofa", rfl, by decide, rfl, in_X3, Or.inl rfl, Or.inr ⟨_, q247⟩⟩
theorem fdX7_138_2 : sd_Fd "SofaDig$Reader" 138 2 0 := ⟨(RX3, TX3, 12), "SofaDig$Sofa", rfl, by decide, rfl, in_X3, Or.inl rfl, Or.inr ⟨_, q244⟩⟩
theorem fdX7_208_2 : sd_Fd "SofaDig$Reader" 208 2 2 := ⟨(RX3, TX3, 12), "SofaDig$Sofa", rfl, by decide, rfl, in_X3, Or.inl rfl, Or.inr ⟨_, q249⟩⟩
theorem fdX7_171_3 : sd_Fd "SofaDig$Reader" 171 3 2 := ⟨(RX4, TX4, 4), "SofaDig$Cushion", rfl, by decide, rfl, in_X4, Or.inl rfl, Or.inr ⟨_, q323⟩⟩
theorem fdX7_212_3 : sd_Fd "SofaDig$Reader" 212 3 1 := ⟨(RX4, TX4, 4), "SofaDig$Cushion", rfl, by decide, rfl, in_X4, Or.inl rfl, Or.inr ⟨_, q320⟩⟩
theorem fnX7_172 : sd_Fn "SofaDig$Reader" 172 3 4 [.int 0, .int 0, .int 0, .int 0] := ⟨(RX4, TX4, 4), tyX4, rfl, rfl, in_X4, q1814, q310, q122, tyX4_ok, fun j hj => by revert j; decide⟩
abbrev mX7_place : sd_Y := (yX7_place, cX7_place, 6, some (.object "SofaDig$Cushion"), none)
def fX7_place_b114 (G : sd_G) (w3 : Nat) (w5 : Nat) (y0 : Int32) (y1 : Nat) : sd_M (Nat ⊕ Nat) :=
  sd_bnd (sd_isC G 6 y1) fun _ =>
  sd_bx (fX7_check G y1 y0 1 w3) (fun e120 =>
    sd_ret (.inr e120)) fun _ =>
  sd_ret (.inl w5)
set_option maxHeartbeats 4000000 in
theorem sX7_place_b114 (l : Launch) (hl : l.stackTraces = false) (G : sd_G) (a0 : Nat) (a1 : Int32) (ρ : Nat ⊕ Nat) (h2 : sd_H) (cT : Nat × Nat) (w3 : Nat) (w5 : Nat) (y0 : Int32) (y1 : Nat) (h : sd_H) (c : Nat × Nat) (hf : fX7_place_b114 G w3 w5 y0 y1 h = some (ρ, c, h2)) : sd_J mX7_place ((l, G), (8, 149), [.ref a0, .int a1], ((sd_ox sd_oR) ρ, h2), cT) 114 [(3, .ref w3), (5, .ref w5)] [.int y0, .ref y1] h c := by
  unfold fX7_place_b114 at hf
  refine sj_iconst (v := 1) dX7_place_114 (by decide) ?_
  refine sj_goto 119 dX7_place_115 (by decide) ?_
  refine sj_aload_n 0 dX7_place_119 rfl ?_
  obtain ⟨fs120, he120, hf⟩ := sd_isC_some hf
  refine sj_xV (rest := []) (fun _ _ _ e => sj_runV (n := 3) (As := [.int y0, .int 1, .ref w3]) (rest := []) (sX7_check l hl G y1 y0 1 w3 h _ _ _ e) he120 rfl rfl rfl rfl q1076 q1078 qs11 q134 q1079 (by decide +kernel) rfl rfl ⟨Nat.le_of_ble_eq_true rfl, Nat.le_of_ble_eq_true rfl⟩ rfl (Nat.le_of_ble_eq_true rfl) dX7_place_120) hf (fun e120 h c hf => ?_) (fun h c hf => ?_)
  · exact sj_outX hf rfl (by intro x hx; cases hx)
  refine sj_aload 1 dX7_place_123 rfl ?_
  exact sj_aret (o := (sd_ox sd_oR)) hf rfl rfl rfl (Or.inl ⟨_, rfl⟩) dX7_place_125
def fX7_place (G : sd_G) (a0 : Nat) (a1 : Int32) : sd_M (Nat ⊕ Nat) :=
  sd_bnd (sd_isC G 6 a0) fun _ =>
  sd_bx (fX7_take_2 G a0 (sd_ad G 111)) (fun e3 =>
    sd_ret (.inr e3)) fun _ =>
  sd_bnd (sd_getR G 6 4 a0) fun v1 =>
  sd_bnd (sd_getI G 2 1 v1) fun v2 =>
  sd_bnd (sd_isC G 6 a0) fun _ =>
  sd_bx (fX7_number G a0 0 (v2 - 1)) (fun e17 =>
    sd_ret (.inr e17)) fun r3 =>
  sd_bnd (sd_isC G 6 a0) fun _ =>
  sd_bx (fX7_take_2 G a0 (sd_ad G 112)) (fun e24 =>
    sd_ret (.inr e24)) fun _ =>
  sd_bnd (sd_isC G 6 a0) fun _ =>
  sd_bnd (fX7_now G a0) fun r4 =>
  sd_bnd (sd_getR G 6 4 a0) fun v5 =>
  sd_bnd (sd_getI G 2 0 v5) fun v6 =>
  sd_bnd (sd_isC G 6 a0) fun _ =>
  sd_bx (fX7_number G a0 0 (v6 - 1)) (fun e43 =>
    sd_ret (.inr e43)) fun r7 =>
  sd_bnd (sd_getI G 6 3 a0) fun v8 =>
  if v8 = 0 then (
    sd_bnd (sd_new 3 4 [.int 0, .int 0, .int 0, .int 0]) fun o15 =>
    sd_bnd (fX4_init G o15 0) fun _ =>
    sd_ret (.inl o15))
  else (
    sd_bnd (sd_getR G 6 4 a0) fun v9 =>
    sd_bnd (sd_getR G 2 2 v9) fun v10 =>
    sd_bnd (sd_isC G 41 v10) fun _ =>
    sd_bnd (fJ2_get G v10 r3) fun r11 =>
    sd_bnd (sd_cast G [41] r11) fun _ =>
    sd_bnd (sd_isC G 41 r11) fun _ =>
    sd_bnd (fJ2_get G r11 r7) fun r12 =>
    sd_bnd (sd_cast G [3] r12) fun _ =>
    if a1 = 0 then (
      sd_bnd (sd_getI G 3 2 r12) fun v13 =>
      if v13 = 0 then (
        fX7_place_b114 G r4 r12 2 a0)
      else (
        sd_bnd (sd_isC G 6 a0) fun _ =>
        sd_bx (fX7_check G a0 2 0 r4) (fun e120 =>
          sd_ret (.inr e120)) fun _ =>
        sd_ret (.inl r12)))
    else (
      sd_bnd (sd_getI G 3 1 r12) fun v14 =>
      if v14 = (-1) then (
        fX7_place_b114 G r4 r12 2 a0)
      else (
        sd_bnd (sd_isC G 6 a0) fun _ =>
        sd_bx (fX7_check G a0 2 0 r4) (fun e120 =>
          sd_ret (.inr e120)) fun _ =>
        sd_ret (.inl r12))))
set_option maxHeartbeats 4000000 in
theorem sX7_place (l : Launch) (hl : l.stackTraces = false) (G : sd_G) (a0 : Nat) (a1 : Int32) (h : sd_H) (ρ : Nat ⊕ Nat) (cT : Nat × Nat) (h2 : sd_H) (hf : fX7_place G a0 a1 h = some (ρ, cT, h2)) : sd_Met mX7_place ((l, G), (8, 149), [.ref a0, .int a1], ((sd_ox sd_oR) ρ, h2), cT) h := by
  refine sd_entry (plainFor_of_name rfl) rfl (Nat.le_of_ble_eq_true rfl) ?_
  show sd_J mX7_place ((l, G), (8, 149), [.ref a0, .int a1], ((sd_ox sd_oR) ρ, h2), cT) 0 [(0, .ref a0), (1, .int a1)] [] h cT
  unfold fX7_place at hf
  refine sj_aload_n 0 dX7_place_0 rfl ?_
  refine sj_ldcS 11 rfl dX7_place_1 ?_
  obtain ⟨fs3, he3, hf⟩ := sd_isC_some hf
  refine sj_xV (rest := []) (fun _ _ _ e => sj_runV (n := 1) (As := [.ref (sd_ad G 111)]) (rest := []) (sX7_take_2 l hl G a0 (sd_ad G 111) h _ _ _ e) he3 rfl rfl rfl rfl q1085 q1087 qs13 q134 q1088 (by decide +kernel) rfl rfl ⟨Nat.le_of_ble_eq_true rfl, Nat.le_of_ble_eq_true rfl⟩ rfl (Nat.le_of_ble_eq_true rfl) dX7_place_3) hf (fun e3 h c hf => ?_) (fun h c hf => ?_)
  · exact sj_outX hf rfl (by intro x hx; cases hx)
  refine sj_aload_n 0 dX7_place_6 rfl ?_
  refine sj_iconst (v := 0) dX7_place_7 (by decide) ?_
  refine sj_aload_n 0 dX7_place_8 rfl ?_
  refine sj_getR fdX7_12_6 hf dX7_place_9 (fun v1 hf => ?_)
  refine sj_getI fdX7_130_2 hf dX7_place_12 (fun v2 hf => ?_)
  refine sj_iconst (v := 1) dX7_place_15 (by decide) ?_
  refine sj_isub dX7_place_16 ?_
  obtain ⟨fs17, he17, hf⟩ := sd_isC_some hf
  refine sj_xI (rest := []) (fun _ _ _ e => sj_runV (n := 2) (As := [.int 0, .int (v2 - 1)]) (rest := []) (sX7_number l hl G a0 0 (v2 - 1) h _ _ _ e) he17 rfl rfl rfl rfl q1021 q1023 qs8 q134 q1024 (by decide +kernel) rfl rfl ⟨Nat.le_of_ble_eq_true rfl, Nat.le_of_ble_eq_true rfl⟩ rfl (Nat.le_of_ble_eq_true rfl) dX7_place_17) hf (fun e17 h c hf => ?_) (fun r3 h c hf => ?_)
  · exact sj_outX hf rfl (by intro x hx; cases hx)
  refine sj_istore_n [(2, .int r3), (0, .ref a0), (1, .int a1)] dX7_place_20 (by decide) rfl ?_
  refine sj_aload_n 1 dX7_place_21 rfl ?_
  refine sj_ldcS 12 rfl dX7_place_22 ?_
  obtain ⟨fs24, he24, hf⟩ := sd_isC_some hf
  refine sj_xV (rest := []) (fun _ _ _ e => sj_runV (n := 1) (As := [.ref (sd_ad G 112)]) (rest := []) (sX7_take_2 l hl G a0 (sd_ad G 112) h _ _ _ e) he24 rfl rfl rfl rfl q1085 q1087 qs13 q134 q1088 (by decide +kernel) rfl rfl ⟨Nat.le_of_ble_eq_true rfl, Nat.le_of_ble_eq_true rfl⟩ rfl (Nat.le_of_ble_eq_true rfl) dX7_place_24) hf (fun e24 h c hf => ?_) (fun h c hf => ?_)
  · exact sj_outX hf rfl (by intro x hx; cases hx)
  refine sj_aload_n 1 dX7_place_27 rfl ?_
  obtain ⟨fs28, he28, hf⟩ := sd_isC_some hf
  refine sj_cR (rest := []) (fun _ _ _ e => sj_runV (n := 0) (As := []) (rest := []) (sX7_now l G a0 h _ _ _ e) he28 rfl rfl rfl rfl q991 q993 qs7 q134 q994 (by decide +kernel) rfl rfl ⟨Nat.le_of_ble_eq_true rfl, Nat.le_of_ble_eq_true rfl⟩ rfl (Nat.le_of_ble_eq_true rfl) dX7_place_28) hf (fun r4 h c hf => ?_)
  refine sj_astore_n [(3, .ref r4), (2, .int r3), (0, .ref a0), (1, .int a1)] dX7_place_31 (by decide) rfl ?_
  refine sj_aload_n 2 dX7_place_32 rfl ?_
  refine sj_iconst (v := 0) dX7_place_33 (by decide) ?_
  refine sj_aload_n 2 dX7_place_34 rfl ?_
  refine sj_getR fdX7_12_6 hf dX7_place_35 (fun v5 hf => ?_)
  refine sj_getI fdX7_138_2 hf dX7_place_38 (fun v6 hf => ?_)
  refine sj_iconst (v := 1) dX7_place_41 (by decide) ?_
  refine sj_isub dX7_place_42 ?_
  obtain ⟨fs43, he43, hf⟩ := sd_isC_some hf
  refine sj_xI (rest := []) (fun _ _ _ e => sj_runV (n := 2) (As := [.int 0, .int (v6 - 1)]) (rest := []) (sX7_number l hl G a0 0 (v6 - 1) h _ _ _ e) he43 rfl rfl rfl rfl q1021 q1023 qs8 q134 q1024 (by decide +kernel) rfl rfl ⟨Nat.le_of_ble_eq_true rfl, Nat.le_of_ble_eq_true rfl⟩ rfl (Nat.le_of_ble_eq_true rfl) dX7_place_43) hf (fun e43 h c hf => ?_) (fun r7 h c hf => ?_)
  · exact sj_outX hf rfl (by intro x hx; cases hx)
  refine sj_istore [(4, .int r7), (3, .ref r4), (2, .int r3), (0, .ref a0), (1, .int a1)] dX7_place_46 (by decide) rfl ?_
  refine sj_aload_n 3 dX7_place_48 rfl ?_
  refine sj_getI fdX7_75_6 hf dX7_place_49 (fun v8 hf => ?_)
  refine sj_ifne 64 hf dX7_place_52 (by decide) (fun g52 hf => ?_) (fun g52 hf => ?_)
  · refine sj_aload_n 3 dX7_place_64 rfl ?_
    refine sj_getR fdX7_12_6 hf dX7_place_65 (fun v9 hf => ?_)
    refine sj_getR fdX7_208_2 hf dX7_place_68 (fun v10 hf => ?_)
    refine sj_iload_n 2 dX7_place_71 rfl ?_
    obtain ⟨fs72, he72, hf⟩ := sd_isC_some hf
    refine sj_cR (rest := []) (fun _ _ _ e => sj_runV (n := 1) (As := [.int r3]) (rest := []) (sJ2_get l G v10 r3 h _ _ _ e) he72 rfl rfl rfl rfl q1816 q1002 q3425 q121 q1004 (by decide +kernel) rfl rfl ⟨Nat.le_of_ble_eq_true rfl, Nat.le_of_ble_eq_true rfl⟩ rfl (Nat.le_of_ble_eq_true rfl) dX7_place_72) hf (fun r11 h c hf => ?_)
    obtain ⟨ci75, fs75, he75, hm75, hf⟩ := sd_cast_some hf
    refine sj_cast he75 hm75 fc_java_util_ArrayList q1817 dX7_place_75 ?_
    refine sj_iload 0 dX7_place_78 rfl ?_
    obtain ⟨fs80, he80, hf⟩ := sd_isC_some hf
    refine sj_cR (rest := []) (fun _ _ _ e => sj_runV (n := 1) (As := [.int r7]) (rest := []) (sJ2_get l G r11 r7 h _ _ _ e) he80 rfl rfl rfl rfl q1816 q1002 q3425 q121 q1004 (by decide +kernel) rfl rfl ⟨Nat.le_of_ble_eq_true rfl, Nat.le_of_ble_eq_true rfl⟩ rfl (Nat.le_of_ble_eq_true rfl) dX7_place_80) hf (fun r12 h c hf => ?_)
    obtain ⟨ci83, fs83, he83, hm83, hf⟩ := sd_cast_some hf
    refine sj_cast he83 hm83 fc_SofaDig_Cushion q1814 dX7_place_83 ?_
    refine sj_astore [(5, .ref r12), (4, .int r7), (3, .ref r4), (2, .int r3), (0, .ref a0), (1, .int a1)] dX7_place_86 (by decide) rfl ?_
    refine sj_aload_n 4 dX7_place_88 rfl ?_
    refine sj_iconst (v := 2) dX7_place_89 (by decide) ?_
    refine sj_iload_n 5 dX7_place_90 rfl ?_
    refine sj_ifeq 106 hf dX7_place_91 (by decide) (fun g91 hf => ?_) (fun g91 hf => ?_)
    · refine sj_aload 0 dX7_place_106 rfl ?_
      refine sj_getI fdX7_171_3 hf dX7_place_108 (fun v13 hf => ?_)
      refine sj_ifne 118 hf dX7_place_111 (by decide) (fun g111 hf => ?_) (fun g111 hf => ?_)
      · refine sj_iconst (v := 0) dX7_place_118 (by decide) ?_
        refine sj_aload_n 2 dX7_place_119 rfl ?_
        obtain ⟨fs120, he120, hf⟩ := sd_isC_some hf
        refine sj_xV (rest := []) (fun _ _ _ e => sj_runV (n := 3) (As := [.int 2, .int 0, .ref r4]) (rest := []) (sX7_check l hl G a0 2 0 r4 h _ _ _ e) he120 rfl rfl rfl rfl q1076 q1078 qs11 q134 q1079 (by decide +kernel) rfl rfl ⟨Nat.le_of_ble_eq_true rfl, Nat.le_of_ble_eq_true rfl⟩ rfl (Nat.le_of_ble_eq_true rfl) dX7_place_120) hf (fun e120 h c hf => ?_) (fun h c hf => ?_)
        · exact sj_outX hf rfl (by intro x hx; cases hx)
        refine sj_aload 0 dX7_place_123 rfl ?_
        exact sj_aret (o := (sd_ox sd_oR)) hf rfl rfl rfl (Or.inl ⟨_, rfl⟩) dX7_place_125
      · exact sj_loc [2, 0] rfl (sX7_place_b114 l hl G a0 a1 ρ h2 cT r4 r12 2 a0 _ _ hf)
    · refine sj_aload 0 dX7_place_94 rfl ?_
      refine sj_getI fdX7_212_3 hf dX7_place_96 (fun v14 hf => ?_)
      refine sj_iconst (v := (-1)) dX7_place_99 (by decide) ?_
      refine sj_iceq 114 hf dX7_place_100 (by decide) (fun g100 hf => ?_) (fun g100 hf => ?_)
      · exact sj_loc [2, 0] rfl (sX7_place_b114 l hl G a0 a1 ρ h2 cT r4 r12 2 a0 _ _ hf)
      · refine sj_goto 118 dX7_place_103 (by decide) ?_
        refine sj_iconst (v := 0) dX7_place_118 (by decide) ?_
        refine sj_aload_n 2 dX7_place_119 rfl ?_
        obtain ⟨fs120, he120, hf⟩ := sd_isC_some hf
        refine sj_xV (rest := []) (fun _ _ _ e => sj_runV (n := 3) (As := [.int 2, .int 0, .ref r4]) (rest := []) (sX7_check l hl G a0 2 0 r4 h _ _ _ e) he120 rfl rfl rfl rfl q1076 q1078 qs11 q134 q1079 (by decide +kernel) rfl rfl ⟨Nat.le_of_ble_eq_true rfl, Nat.le_of_ble_eq_true rfl⟩ rfl (Nat.le_of_ble_eq_true rfl) dX7_place_120) hf (fun e120 h c hf => ?_) (fun h c hf => ?_)
        · exact sj_outX hf rfl (by intro x hx; cases hx)
        refine sj_aload 0 dX7_place_123 rfl ?_
        exact sj_aret (o := (sd_ox sd_oR)) hf rfl rfl rfl (Or.inl ⟨_, rfl⟩) dX7_place_125
  · refine sj_new fnX7_172 hf dX7_place_55 (fun o15 h c hf => ?_)
    refine sj_dup dX7_place_58 rfl ?_
    refine sj_iconst (v := 0) dX7_place_59 (by decide) ?_
    refine sj_cV (rest := [.ref o15]) (fun _ _ _ e => sj_runI (n := 1) (a := o15) (As := [.int 0]) (rest := [.ref o15]) (sX4_init l G o15 0 h _ _ _ e) rfl rfl q1815 q312 q122 q313 rfl (by decide +kernel) rfl rfl (fun _ z => by cases z) ⟨Nat.le_of_ble_eq_true rfl, Nat.le_of_ble_eq_true rfl⟩ rfl (Nat.le_of_ble_eq_true rfl) dX7_place_60) hf (fun h c hf => ?_)
    exact sj_aret (o := (sd_ox sd_oR)) hf rfl rfl rfl (Or.inl ⟨_, rfl⟩) dX7_place_63
/-! SofaDig$Reader.known(Ljava/util/HashMap;)I -/
abbrev cX7_known : ByteArray := prog_18_method_13_code
def yX7_known : MethodName := ⟨RX7, "known", "(Ljava/util/HashMap;)I"⟩
def dkwX7_known_2 : List UInt8 := [172]
abbrev dktX7_known_2 : List UInt8 := dkwX7_known_2 ++ []
def dkwX7_known_1 : List UInt8 := [180, 0, 75, 153, 0, 20, 43, 44, 180, 0, 87, 182, 0, 113, 192, 0, 104, 182, 0, 116, 167, 0, 4, 3]
abbrev dktX7_known_1 : List UInt8 := dkwX7_known_1 ++ dktX7_known_2
def dkwX7_known_0 : List UInt8 := [42, 178, 0, 79, 182, 0, 84, 77, 42, 6, 43, 44, 180, 0, 87, 182, 0, 91, 44, 182, 0, 95, 42]
abbrev dktX7_known_0 : List UInt8 := dkwX7_known_0 ++ dktX7_known_1
theorem dksX7_known_0 : cX7_known.data.toList.drop 0 = dktX7_known_0 := by decide +kernel
theorem dksX7_known_1 : cX7_known.data.toList.drop 23 = dktX7_known_1 := dk_seg dksX7_known_0 23 rfl rfl
theorem dksX7_known_2 : cX7_known.data.toList.drop 47 = dktX7_known_2 := dk_seg dksX7_known_1 24 rfl rfl
theorem dX7_known_0 : decode cX7_known 0 = .ok (.aload_n 0, 1) := dk_42 (dk_at dksX7_known_0 0 rfl rfl)
theorem dX7_known_1 : decode cX7_known 1 = .ok (.getstatic 79, 3) := dk_178 0 79 (dk_at dksX7_known_0 1 rfl rfl)
theorem dX7_known_4 : decode cX7_known 4 = .ok (.invokevirtual 84, 3) := dk_182 0 84 (dk_at dksX7_known_0 4 rfl rfl)
theorem dX7_known_7 : decode cX7_known 7 = .ok (.astore_n 2, 1) := dk_77 (dk_at dksX7_known_0 7 rfl rfl)
theorem dX7_known_8 : decode cX7_known 8 = .ok (.aload_n 0, 1) := dk_42 (dk_at dksX7_known_0 8 rfl rfl)
theorem dX7_known_9 : decode cX7_known 9 = .ok (.iconst 3, 1) := dk_6 (dk_at dksX7_known_0 9 rfl rfl)
theorem dX7_known_10 : decode cX7_known 10 = .ok (.aload_n 1, 1) := dk_43 (dk_at dksX7_known_0 10 rfl rfl)
theorem dX7_known_11 : decode cX7_known 11 = .ok (.aload_n 2, 1) := dk_44 (dk_at dksX7_known_0 11 rfl rfl)
theorem dX7_known_12 : decode cX7_known 12 = .ok (.getfield 87, 3) := dk_180 0 87 (dk_at dksX7_known_0 12 rfl rfl)
theorem dX7_known_15 : decode cX7_known 15 = .ok (.invokevirtual 91, 3) := dk_182 0 91 (dk_at dksX7_known_0 15 rfl rfl)
theorem dX7_known_18 : decode cX7_known 18 = .ok (.aload_n 2, 1) := dk_44 (dk_at dksX7_known_0 18 rfl rfl)
theorem dX7_known_19 : decode cX7_known 19 = .ok (.invokevirtual 95, 3) := dk_182 0 95 (dk_at dksX7_known_0 19 rfl rfl)
theorem dX7_known_22 : decode cX7_known 22 = .ok (.aload_n 0, 1) := dk_42 (dk_at dksX7_known_0 22 rfl rfl)
theorem dX7_known_23 : decode cX7_known 23 = .ok (.getfield 75, 3) := dk_180 0 75 (dk_at dksX7_known_1 0 rfl rfl)
theorem dX7_known_26 : decode cX7_known 26 = .ok (.ifCond .eq 20, 3) := dk_153 0 20 (dk_at dksX7_known_1 3 rfl rfl)
theorem dX7_known_29 : decode cX7_known 29 = .ok (.aload_n 1, 1) := dk_43 (dk_at dksX7_known_1 6 rfl rfl)
theorem dX7_known_30 : decode cX7_known 30 = .ok (.aload_n 2, 1) := dk_44 (dk_at dksX7_known_1 7 rfl rfl)
theorem dX7_known_31 : decode cX7_known 31 = .ok (.getfield 87, 3) := dk_180 0 87 (dk_at dksX7_known_1 8 rfl rfl)
theorem dX7_known_34 : decode cX7_known 34 = .ok (.invokevirtual 113, 3) := dk_182 0 113 (dk_at dksX7_known_1 11 rfl rfl)
theorem dX7_known_37 : decode cX7_known 37 = .ok (.checkcast 104, 3) := dk_192 0 104 (dk_at dksX7_known_1 14 rfl rfl)
theorem dX7_known_40 : decode cX7_known 40 = .ok (.invokevirtual 116, 3) := dk_182 0 116 (dk_at dksX7_known_1 17 rfl rfl)
theorem dX7_known_43 : decode cX7_known 43 = .ok (.goto 4, 3) := dk_167 0 4 (dk_at dksX7_known_1 20 rfl rfl)
theorem dX7_known_46 : decode cX7_known 46 = .ok (.iconst 0, 1) := dk_3 (dk_at dksX7_known_1 23 rfl rfl)
theorem dX7_known_47 : decode cX7_known 47 = .ok (.ireturn, 1) := dk_172 (dk_at dksX7_known_2 0 rfl rfl)
theorem fc_java_lang_Integer : sd_Fc [47] "java/lang/Integer" := fun ci r hm hc => by
  simp only [List.mem_cons, List.not_mem_nil, or_false] at hm
  rcases hm with rfl
  · cases hc; exact Or.inl rfl
abbrev mX7_known : sd_Y := (yX7_known, cX7_known, 3, some (.int), none)
def fX7_known (G : sd_G) (a0 : Nat) (a1 : Nat) : sd_M (Int32 ⊕ Nat) :=
  sd_bnd (sd_isC G 6 a0) fun _ =>
  sd_bx (fX7_take G a0 (sd_ad G 4)) (fun e4 =>
    sd_ret (.inr e4)) fun r1 =>
  sd_bnd (sd_getR G 8 1 r1) fun v2 =>
  sd_bnd (sd_isC G 43 a1) fun _ =>
  sd_bnd (fJ22_containsKey G a1 v2) fun r3 =>
  sd_bnd (sd_isC G 6 a0) fun _ =>
  sd_bx (fX7_check G a0 3 r3 r1) (fun e19 =>
    sd_ret (.inr e19)) fun _ =>
  sd_bnd (sd_getI G 6 3 a0) fun v4 =>
  if v4 = 0 then (
    sd_ret (.inl 0))
  else (
    sd_bnd (sd_getR G 8 1 r1) fun v5 =>
    sd_bnd (sd_isC G 43 a1) fun _ =>
    sd_bnd (fJ22_get G a1 v5) fun r6 =>
    sd_bnd (sd_nn r6) fun p7 =>
    sd_bnd (sd_cast G [47] p7) fun _ =>
    sd_bnd (sd_isC G 47 p7) fun _ =>
    sd_bnd (fJ19_intValue G p7) fun r8 =>
    sd_ret (.inl r8))
set_option maxHeartbeats 4000000 in
theorem sX7_known (l : Launch) (hl : l.stackTraces = false) (G : sd_G) (a0 : Nat) (a1 : Nat) (h : sd_H) (ρ : Int32 ⊕ Nat) (cT : Nat × Nat) (h2 : sd_H) (hf : fX7_known G a0 a1 h = some (ρ, cT, h2)) : sd_Met mX7_known ((l, G), (7, 160), [.ref a0, .ref a1], ((sd_ox sd_oI) ρ, h2), cT) h := by
  refine sd_entry (plainFor_of_name rfl) rfl (Nat.le_of_ble_eq_true rfl) ?_
  show sd_J mX7_known ((l, G), (7, 160), [.ref a0, .ref a1], ((sd_ox sd_oI) ρ, h2), cT) 0 [(0, .ref a0), (1, .ref a1)] [] h cT
  unfold fX7_known at hf
  refine sj_aload_n 0 dX7_known_0 rfl ?_
  refine sj_gets (v := .ref (sd_ad G 4)) 11 rfl rfl ⟨Or.inl q1105, rfl⟩ dX7_known_1 ?_
  obtain ⟨fs4, he4, hf⟩ := sd_isC_some hf
  refine sj_xR (rest := []) (fun _ _ _ e => sj_runV (n := 1) (As := [.ref (sd_ad G 4)]) (rest := []) (sX7_take l hl G a0 (sd_ad G 4) h _ _ _ e) he4 rfl rfl rfl rfl q1026 q1028 qs9 q134 q1029 (by decide +kernel) rfl rfl ⟨Nat.le_of_ble_eq_true rfl, Nat.le_of_ble_eq_true rfl⟩ rfl (Nat.le_of_ble_eq_true rfl) dX7_known_4) hf (fun e4 h c hf => ?_) (fun r1 h c hf => ?_)
  · exact sj_outX hf rfl (by intro x hx; cases hx)
  refine sj_astore_n [(2, .ref r1), (0, .ref a0), (1, .ref a1)] dX7_known_7 (by decide) rfl ?_
  refine sj_aload_n 1 dX7_known_8 rfl ?_
  refine sj_iconst (v := 3) dX7_known_9 (by decide) ?_
  refine sj_aload_n 2 dX7_known_10 rfl ?_
  refine sj_aload_n 0 dX7_known_11 rfl ?_
  refine sj_getR fdX7_87_8 hf dX7_known_12 (fun v2 hf => ?_)
  obtain ⟨fs15, he15, hf⟩ := sd_isC_some hf
  refine sj_cI (rest := [.int 3, .ref a0]) (fun _ _ _ e => sj_runV (n := 1) (As := [.ref v2]) (rest := [.int 3, .ref a0]) (sJ22_containsKey l G a1 v2 h _ _ _ e) he15 rfl rfl rfl rfl q1106 q1107 q1108 q149 q1109 (by decide +kernel) rfl rfl ⟨Nat.le_of_ble_eq_true rfl, Nat.le_of_ble_eq_true rfl⟩ rfl (Nat.le_of_ble_eq_true rfl) dX7_known_15) hf (fun r3 h c hf => ?_)
  refine sj_aload_n 0 dX7_known_18 rfl ?_
  obtain ⟨fs19, he19, hf⟩ := sd_isC_some hf
  refine sj_xV (rest := []) (fun _ _ _ e => sj_runV (n := 3) (As := [.int 3, .int r3, .ref r1]) (rest := []) (sX7_check l hl G a0 3 r3 r1 h _ _ _ e) he19 rfl rfl rfl rfl q1076 q1078 qs11 q134 q1079 (by decide +kernel) rfl rfl ⟨Nat.le_of_ble_eq_true rfl, Nat.le_of_ble_eq_true rfl⟩ rfl (Nat.le_of_ble_eq_true rfl) dX7_known_19) hf (fun e19 h c hf => ?_) (fun h c hf => ?_)
  · exact sj_outX hf rfl (by intro x hx; cases hx)
  refine sj_aload_n 1 dX7_known_22 rfl ?_
  refine sj_getI fdX7_75_6 hf dX7_known_23 (fun v4 hf => ?_)
  refine sj_ifeq 46 hf dX7_known_26 (by decide) (fun g26 hf => ?_) (fun g26 hf => ?_)
  · refine sj_iconst (v := 0) dX7_known_46 (by decide) ?_
    exact sj_iret (o := (sd_ox sd_oI)) hf rfl rfl rfl dX7_known_47
  · refine sj_aload_n 2 dX7_known_29 rfl ?_
    refine sj_aload_n 0 dX7_known_30 rfl ?_
    refine sj_getR fdX7_87_8 hf dX7_known_31 (fun v5 hf => ?_)
    obtain ⟨fs34, he34, hf⟩ := sd_isC_some hf
    refine sj_cQ (rest := []) (fun _ _ _ e => sj_runV (n := 1) (As := [.ref v5]) (rest := []) (sJ22_get l G a1 v5 h _ _ _ e) he34 rfl rfl rfl rfl q1824 q1825 q1826 q149 q1827 (by decide +kernel) rfl rfl ⟨Nat.le_of_ble_eq_true rfl, Nat.le_of_ble_eq_true rfl⟩ rfl (Nat.le_of_ble_eq_true rfl) dX7_known_34) hf (fun r6 h c hf => ?_)
    obtain ⟨p7, hnp7, hqp7⟩ := sd_nn_some hf
    clear hf; subst hnp7; have hf := hqp7; clear hqp7
    obtain ⟨ci37, fs37, he37, hm37, hf⟩ := sd_cast_some hf
    refine sj_cast he37 hm37 fc_java_lang_Integer q1828 dX7_known_37 ?_
    obtain ⟨fs40, he40, hf⟩ := sd_isC_some hf
    refine sj_cI (rest := []) (fun _ _ _ e => sj_runV (n := 0) (As := []) (rest := []) (sJ19_intValue l G p7 h _ _ _ e) he40 rfl rfl rfl rfl q1829 q1293 q1294 q146 q1295 (by decide +kernel) rfl rfl ⟨Nat.le_of_ble_eq_true rfl, Nat.le_of_ble_eq_true rfl⟩ rfl (Nat.le_of_ble_eq_true rfl) dX7_known_40) hf (fun r8 h c hf => ?_)
    refine sj_goto 47 dX7_known_43 (by decide) ?_
    exact sj_iret (o := (sd_ox sd_oI)) hf rfl rfl rfl dX7_known_47
/-! SofaDig$Reader.find(LSofaDig$Token;Z)V -/
abbrev cX7_find : ByteArray := prog_18_method_20_code
def yX7_find : MethodName := ⟨RX7, "find", "(LSofaDig$Token;Z)V"⟩
def dkwX7_find_4 : List UInt8 := [28, 21, 4, 45, 180, 0, 228, 183, 0, 231, 182, 0, 193, 87, 177]
abbrev dktX7_find_4 : List UInt8 := dkwX7_find_4 ++ []
def dkwX7_find_3 : List UInt8 := [182, 0, 69, 42, 42, 180, 0, 21, 182, 0, 222, 54, 4, 42, 180, 0, 12, 180, 0, 214, 187, 0, 226, 89]
abbrev dktX7_find_3 : List UInt8 := dkwX7_find_3 ++ dktX7_find_4
def dkwX7_find_2 : List UInt8 := [54, 4, 28, 153, 0, 18, 42, 18, 218, 3, 17, 3, 231, 182, 0, 134, 54, 4, 167, 0, 19, 42, 18, 220]
abbrev dktX7_find_2 : List UInt8 := dkwX7_find_2 ++ dktX7_find_3
def dkwX7_find_1 : List UInt8 := [182, 0, 95, 42, 4, 182, 0, 167, 78, 45, 42, 180, 0, 12, 180, 0, 214, 182, 0, 217, 181, 0, 212, 3]
abbrev dktX7_find_1 : List UInt8 := dkwX7_find_1 ++ dktX7_find_2
def dkwX7_find_0 : List UInt8 := [42, 7, 42, 180, 0, 12, 180, 0, 214, 182, 0, 217, 16, 24, 162, 0, 7, 4, 167, 0, 4, 3, 43]
abbrev dktX7_find_0 : List UInt8 := dkwX7_find_0 ++ dktX7_find_1
theorem dksX7_find_0 : cX7_find.data.toList.drop 0 = dktX7_find_0 := by decide +kernel
theorem dksX7_find_1 : cX7_find.data.toList.drop 23 = dktX7_find_1 := dk_seg dksX7_find_0 23 rfl rfl
theorem dksX7_find_2 : cX7_find.data.toList.drop 47 = dktX7_find_2 := dk_seg dksX7_find_1 24 rfl rfl
theorem dksX7_find_3 : cX7_find.data.toList.drop 71 = dktX7_find_3 := dk_seg dksX7_find_2 24 rfl rfl
theorem dksX7_find_4 : cX7_find.data.toList.drop 95 = dktX7_find_4 := dk_seg dksX7_find_3 24 rfl rfl
theorem dX7_find_0 : decode cX7_find 0 = .ok (.aload_n 0, 1) := dk_42 (dk_at dksX7_find_0 0 rfl rfl)
theorem dX7_find_1 : decode cX7_find 1 = .ok (.iconst 4, 1) := dk_7 (dk_at dksX7_find_0 1 rfl rfl)
theorem dX7_find_2 : decode cX7_find 2 = .ok (.aload_n 0, 1) := dk_42 (dk_at dksX7_find_0 2 rfl rfl)
theorem dX7_find_3 : decode cX7_find 3 = .ok (.getfield 12, 3) := dk_180 0 12 (dk_at dksX7_find_0 3 rfl rfl)
theorem dX7_find_6 : decode cX7_find 6 = .ok (.getfield 214, 3) := dk_180 0 214 (dk_at dksX7_find_0 6 rfl rfl)
theorem dX7_find_9 : decode cX7_find 9 = .ok (.invokevirtual 217, 3) := dk_182 0 217 (dk_at dksX7_find_0 9 rfl rfl)
theorem dX7_find_12 : decode cX7_find 12 = .ok (.bipush 24, 2) := dk_16 24 (dk_at dksX7_find_0 12 rfl rfl)
theorem dX7_find_14 : decode cX7_find 14 = .ok (.if_icmp .ge 7, 3) := dk_162 0 7 (dk_at dksX7_find_0 14 rfl rfl)
theorem dX7_find_17 : decode cX7_find 17 = .ok (.iconst 1, 1) := dk_4 (dk_at dksX7_find_0 17 rfl rfl)
theorem dX7_find_18 : decode cX7_find 18 = .ok (.goto 4, 3) := dk_167 0 4 (dk_at dksX7_find_0 18 rfl rfl)
theorem dX7_find_21 : decode cX7_find 21 = .ok (.iconst 0, 1) := dk_3 (dk_at dksX7_find_0 21 rfl rfl)
theorem dX7_find_22 : decode cX7_find 22 = .ok (.aload_n 1, 1) := dk_43 (dk_at dksX7_find_0 22 rfl rfl)
theorem dX7_find_23 : decode cX7_find 23 = .ok (.invokevirtual 95, 3) := dk_182 0 95 (dk_at dksX7_find_1 0 rfl rfl)
theorem dX7_find_26 : decode cX7_find 26 = .ok (.aload_n 0, 1) := dk_42 (dk_at dksX7_find_1 3 rfl rfl)
theorem dX7_find_27 : decode cX7_find 27 = .ok (.iconst 1, 1) := dk_4 (dk_at dksX7_find_1 4 rfl rfl)
theorem dX7_find_28 : decode cX7_find 28 = .ok (.invokevirtual 167, 3) := dk_182 0 167 (dk_at dksX7_find_1 5 rfl rfl)
theorem dX7_find_31 : decode cX7_find 31 = .ok (.astore_n 3, 1) := dk_78 (dk_at dksX7_find_1 8 rfl rfl)
theorem dX7_find_32 : decode cX7_find 32 = .ok (.aload_n 3, 1) := dk_45 (dk_at dksX7_find_1 9 rfl rfl)
theorem dX7_find_33 : decode cX7_find 33 = .ok (.aload_n 0, 1) := dk_42 (dk_at dksX7_find_1 10 rfl rfl)
theorem dX7_find_34 : decode cX7_find 34 = .ok (.getfield 12, 3) := dk_180 0 12 (dk_at dksX7_find_1 11 rfl rfl)
theorem dX7_find_37 : decode cX7_find 37 = .ok (.getfield 214, 3) := dk_180 0 214 (dk_at dksX7_find_1 14 rfl rfl)
theorem dX7_find_40 : decode cX7_find 40 = .ok (.invokevirtual 217, 3) := dk_182 0 217 (dk_at dksX7_find_1 17 rfl rfl)
theorem dX7_find_43 : decode cX7_find 43 = .ok (.putfield 212, 3) := dk_181 0 212 (dk_at dksX7_find_1 20 rfl rfl)
theorem dX7_find_46 : decode cX7_find 46 = .ok (.iconst 0, 1) := dk_3 (dk_at dksX7_find_1 23 rfl rfl)
theorem dX7_find_47 : decode cX7_find 47 = .ok (.istore 4, 2) := dk_54 4 (dk_at dksX7_find_2 0 rfl rfl)
theorem dX7_find_49 : decode cX7_find 49 = .ok (.iload_n 2, 1) := dk_28 (dk_at dksX7_find_2 2 rfl rfl)
theorem dX7_find_50 : decode cX7_find 50 = .ok (.ifCond .eq 18, 3) := dk_153 0 18 (dk_at dksX7_find_2 3 rfl rfl)
theorem dX7_find_53 : decode cX7_find 53 = .ok (.aload_n 0, 1) := dk_42 (dk_at dksX7_find_2 6 rfl rfl)
theorem dX7_find_54 : decode cX7_find 54 = .ok (.ldc 218, 2) := dk_18 218 (dk_at dksX7_find_2 7 rfl rfl)
theorem dX7_find_56 : decode cX7_find 56 = .ok (.iconst 0, 1) := dk_3 (dk_at dksX7_find_2 9 rfl rfl)
theorem dX7_find_57 : decode cX7_find 57 = .ok (.sipush 999, 3) := dk_17 3 231 (dk_at dksX7_find_2 10 rfl rfl)
theorem dX7_find_60 : decode cX7_find 60 = .ok (.invokevirtual 134, 3) := dk_182 0 134 (dk_at dksX7_find_2 13 rfl rfl)
theorem dX7_find_63 : decode cX7_find 63 = .ok (.istore 4, 2) := dk_54 4 (dk_at dksX7_find_2 16 rfl rfl)
theorem dX7_find_65 : decode cX7_find 65 = .ok (.goto 19, 3) := dk_167 0 19 (dk_at dksX7_find_2 18 rfl rfl)
theorem dX7_find_68 : decode cX7_find 68 = .ok (.aload_n 0, 1) := dk_42 (dk_at dksX7_find_2 21 rfl rfl)
theorem dX7_find_69 : decode cX7_find 69 = .ok (.ldc 220, 2) := dk_18 220 (dk_at dksX7_find_2 22 rfl rfl)
theorem dX7_find_71 : decode cX7_find 71 = .ok (.invokevirtual 69, 3) := dk_182 0 69 (dk_at dksX7_find_3 0 rfl rfl)
theorem dX7_find_74 : decode cX7_find 74 = .ok (.aload_n 0, 1) := dk_42 (dk_at dksX7_find_3 3 rfl rfl)
theorem dX7_find_75 : decode cX7_find 75 = .ok (.aload_n 0, 1) := dk_42 (dk_at dksX7_find_3 4 rfl rfl)
theorem dX7_find_76 : decode cX7_find 76 = .ok (.getfield 21, 3) := dk_180 0 21 (dk_at dksX7_find_3 5 rfl rfl)
theorem dX7_find_79 : decode cX7_find 79 = .ok (.invokevirtual 222, 3) := dk_182 0 222 (dk_at dksX7_find_3 8 rfl rfl)
theorem dX7_find_82 : decode cX7_find 82 = .ok (.istore 4, 2) := dk_54 4 (dk_at dksX7_find_3 11 rfl rfl)
theorem dX7_find_84 : decode cX7_find 84 = .ok (.aload_n 0, 1) := dk_42 (dk_at dksX7_find_3 13 rfl rfl)
theorem dX7_find_85 : decode cX7_find 85 = .ok (.getfield 12, 3) := dk_180 0 12 (dk_at dksX7_find_3 14 rfl rfl)
theorem dX7_find_88 : decode cX7_find 88 = .ok (.getfield 214, 3) := dk_180 0 214 (dk_at dksX7_find_3 17 rfl rfl)
theorem dX7_find_91 : decode cX7_find 91 = .ok (.new 226, 3) := dk_187 0 226 (dk_at dksX7_find_3 20 rfl rfl)
theorem dX7_find_94 : decode cX7_find 94 = .ok (.dup, 1) := dk_89 (dk_at dksX7_find_3 23 rfl rfl)
theorem dX7_find_95 : decode cX7_find 95 = .ok (.iload_n 2, 1) := dk_28 (dk_at dksX7_find_4 0 rfl rfl)
theorem dX7_find_96 : decode cX7_find 96 = .ok (.iload 4, 2) := dk_21 4 (dk_at dksX7_find_4 1 rfl rfl)
theorem dX7_find_98 : decode cX7_find 98 = .ok (.aload_n 3, 1) := dk_45 (dk_at dksX7_find_4 3 rfl rfl)
theorem dX7_find_99 : decode cX7_find 99 = .ok (.getfield 228, 3) := dk_180 0 228 (dk_at dksX7_find_4 4 rfl rfl)
theorem dX7_find_102 : decode cX7_find 102 = .ok (.invokespecial 231, 3) := dk_183 0 231 (dk_at dksX7_find_4 7 rfl rfl)
theorem dX7_find_105 : decode cX7_find 105 = .ok (.invokevirtual 193, 3) := dk_182 0 193 (dk_at dksX7_find_4 10 rfl rfl)
theorem dX7_find_108 : decode cX7_find 108 = .ok (.pop, 1) := dk_87 (dk_at dksX7_find_4 13 rfl rfl)
theorem dX7_find_109 : decode cX7_find 109 = .ok (.return_, 1) := dk_177 (dk_at dksX7_find_4 14 rfl rfl)
theorem fdX7_214_2 : sd_Fd "SofaDig$Reader" 214 2 4 := ⟨(RX3, TX3, 12), "SofaDig$Sofa", rfl, by decide, rfl, in_X3, Or.inl rfl, Or.inr ⟨_, q258⟩⟩
theorem fpX7_212_3 (n d : String) : sd_Fp ⟨"SofaDig$Reader", n, d⟩ 212 3 1 .int := ⟨(RX4, TX4, 4), "SofaDig$Cushion", tyX4, rfl, by decide, rfl, in_X4, Or.inl rfl, tyX4_ok, nmX4, rfl, Or.inl ⟨rfl, Or.inr ⟨_, q320⟩⟩⟩
theorem fnX7_226 : sd_Fn "SofaDig$Reader" 226 11 3 [.int 0, .int 0, .int 0] := ⟨(RX12, TX12, 3), tyX12, rfl, rfl, in_X12, q1830, q1831, q160, tyX12_ok, fun j hj => by revert j; decide⟩
theorem fdX7_228_3 : sd_Fd "SofaDig$Reader" 228 3 0 := ⟨(RX4, TX4, 4), "SofaDig$Cushion", rfl, by decide, rfl, in_X4, Or.inl rfl, Or.inr ⟨_, q316⟩⟩
abbrev mX7_find : sd_Y := (yX7_find, cX7_find, 5, none, none)
def fX7_find_b84 (G : sd_G) (w0 : Nat) (w2 : Int32) (w3 : Nat) (w4 : Int32) : sd_M (Unit ⊕ Nat) :=
  sd_bnd (sd_getR G 6 4 w0) fun v10 =>
  sd_bnd (sd_getR G 2 4 v10) fun v11 =>
  sd_bnd (sd_new 11 3 [.int 0, .int 0, .int 0]) fun o12 =>
  sd_bnd (sd_getI G 3 0 w3) fun v13 =>
  sd_bnd (fX12_init G o12 w2 w4 v13) fun _ =>
  sd_bnd (sd_isC G 41 v11) fun _ =>
  sd_bnd (fJ2_add G v11 o12) fun r14 =>
  sd_ret (.inl ())
set_option maxHeartbeats 4000000 in
theorem sX7_find_b84 (l : Launch) (hl : l.stackTraces = false) (G : sd_G) (a0 : Nat) (a1 : Nat) (a2 : Int32) (ρ : Unit ⊕ Nat) (h2 : sd_H) (cT : Nat × Nat) (w0 : Nat) (w2 : Int32) (w3 : Nat) (w4 : Int32) (h : sd_H) (c : Nat × Nat) (hf : fX7_find_b84 G w0 w2 w3 w4 h = some (ρ, c, h2)) : sd_J mX7_find ((l, G), (9, 182), [.ref a0, .ref a1, .int a2], ((sd_ox sd_oV) ρ, h2), cT) 84 [(0, .ref w0), (2, .int w2), (3, .ref w3), (4, .int w4)] [] h c := by
  unfold fX7_find_b84 at hf
  refine sj_aload_n 0 dX7_find_84 rfl ?_
  refine sj_getR fdX7_12_6 hf dX7_find_85 (fun v10 hf => ?_)
  refine sj_getR fdX7_214_2 hf dX7_find_88 (fun v11 hf => ?_)
  refine sj_new fnX7_226 hf dX7_find_91 (fun o12 h c hf => ?_)
  refine sj_dup dX7_find_94 rfl ?_
  refine sj_iload_n 1 dX7_find_95 rfl ?_
  refine sj_iload 3 dX7_find_96 rfl ?_
  refine sj_aload_n 2 dX7_find_98 rfl ?_
  refine sj_getI fdX7_228_3 hf dX7_find_99 (fun v13 hf => ?_)
  refine sj_cV (rest := [.ref o12, .ref v11]) (fun _ _ _ e => sj_runI (n := 3) (a := o12) (As := [.int w2, .int w4, .int v13]) (rest := [.ref o12, .ref v11]) (sX12_init l G o12 w2 w4 v13 h _ _ _ e) rfl rfl q1832 q1833 q160 q1834 rfl (by decide +kernel) rfl rfl (fun _ z => by cases z) ⟨Nat.le_of_ble_eq_true rfl, Nat.le_of_ble_eq_true rfl⟩ rfl (Nat.le_of_ble_eq_true rfl) dX7_find_102) hf (fun h c hf => ?_)
  obtain ⟨fs105, he105, hf⟩ := sd_isC_some hf
  refine sj_cI (rest := []) (fun _ _ _ e => sj_runV (n := 1) (As := [.ref o12]) (rest := []) (sJ2_add l G v11 o12 h _ _ _ e) he105 rfl rfl rfl rfl q1638 q338 q339 q121 q340 (by decide +kernel) rfl rfl ⟨Nat.le_of_ble_eq_true rfl, Nat.le_of_ble_eq_true rfl⟩ rfl (Nat.le_of_ble_eq_true rfl) dX7_find_105) hf (fun r14 h c hf => ?_)
  refine sj_pop dX7_find_108 rfl ?_
  exact sj_vret (o := (sd_ox sd_oV)) hf rfl rfl rfl dX7_find_109
def fX7_find_b22 (G : sd_G) (w0 : Nat) (w1 : Nat) (w2 : Int32) (y0 : Int32) (y1 : Int32) (y2 : Nat) : sd_M (Unit ⊕ Nat) :=
  sd_bnd (sd_isC G 6 y2) fun _ =>
  sd_bx (fX7_check G y2 y1 y0 w1) (fun e23 =>
    sd_ret (.inr e23)) fun _ =>
  sd_bnd (sd_isC G 6 w0) fun _ =>
  sd_bx (fX7_place G w0 1) (fun e28 =>
    sd_ret (.inr e28)) fun r4 =>
  sd_bnd (sd_getR G 6 4 w0) fun v5 =>
  sd_bnd (sd_getR G 2 4 v5) fun v6 =>
  sd_bnd (sd_isC G 41 v6) fun _ =>
  sd_bnd (fJ2_size G v6) fun r7 =>
  sd_bnd (sd_put 3 1 .int r4 (.int r7)) fun _ =>
  if w2 = 0 then (
    sd_bnd (sd_isC G 6 w0) fun _ =>
    sd_bx (fX7_take_2 G w0 (sd_ad G 114)) (fun e71 =>
      sd_ret (.inr e71)) fun _ =>
    sd_bnd (sd_getR G 6 5 w0) fun v8 =>
    sd_bnd (sd_isC G 6 w0) fun _ =>
    sd_bx (fX7_known G w0 v8) (fun e79 =>
      sd_ret (.inr e79)) fun r9 =>
    fX7_find_b84 G w0 w2 r4 r9)
  else (
    sd_bnd (sd_isC G 6 w0) fun _ =>
    sd_bx (fX7_numberOf G w0 (sd_ad G 113) 0 999) (fun e60 =>
      sd_ret (.inr e60)) fun r15 =>
    fX7_find_b84 G w0 w2 r4 r15)
set_option maxHeartbeats 4000000 in
theorem sX7_find_b22 (l : Launch) (hl : l.stackTraces = false) (G : sd_G) (a0 : Nat) (a1 : Nat) (a2 : Int32) (ρ : Unit ⊕ Nat) (h2 : sd_H) (cT : Nat × Nat) (w0 : Nat) (w1 : Nat) (w2 : Int32) (y0 : Int32) (y1 : Int32) (y2 : Nat) (h : sd_H) (c : Nat × Nat) (hf : fX7_find_b22 G w0 w1 w2 y0 y1 y2 h = some (ρ, c, h2)) : sd_J mX7_find ((l, G), (9, 182), [.ref a0, .ref a1, .int a2], ((sd_ox sd_oV) ρ, h2), cT) 22 [(0, .ref w0), (1, .ref w1), (2, .int w2)] [.int y0, .int y1, .ref y2] h c := by
  unfold fX7_find_b22 at hf
  refine sj_aload_n 1 dX7_find_22 rfl ?_
  obtain ⟨fs23, he23, hf⟩ := sd_isC_some hf
  refine sj_xV (rest := []) (fun _ _ _ e => sj_runV (n := 3) (As := [.int y1, .int y0, .ref w1]) (rest := []) (sX7_check l hl G y2 y1 y0 w1 h _ _ _ e) he23 rfl rfl rfl rfl q1076 q1078 qs11 q134 q1079 (by decide +kernel) rfl rfl ⟨Nat.le_of_ble_eq_true rfl, Nat.le_of_ble_eq_true rfl⟩ rfl (Nat.le_of_ble_eq_true rfl) dX7_find_23) hf (fun e23 h c hf => ?_) (fun h c hf => ?_)
  · exact sj_outX hf rfl (by intro x hx; cases hx)
  refine sj_aload_n 0 dX7_find_26 rfl ?_
  refine sj_iconst (v := 1) dX7_find_27 (by decide) ?_
  obtain ⟨fs28, he28, hf⟩ := sd_isC_some hf
  refine sj_xR (rest := []) (fun _ _ _ e => sj_runV (n := 1) (As := [.int 1]) (rest := []) (sX7_place l hl G w0 1 h _ _ _ e) he28 rfl rfl rfl rfl q1808 q1810 qs19 q134 q1811 (by decide +kernel) rfl rfl ⟨Nat.le_of_ble_eq_true rfl, Nat.le_of_ble_eq_true rfl⟩ rfl (Nat.le_of_ble_eq_true rfl) dX7_find_28) hf (fun e28 h c hf => ?_) (fun r4 h c hf => ?_)
  · exact sj_outX hf rfl (by intro x hx; cases hx)
  refine sj_astore_n [(3, .ref r4), (0, .ref w0), (1, .ref w1), (2, .int w2)] dX7_find_31 (by decide) rfl ?_
  refine sj_aload_n 0 dX7_find_32 rfl ?_
  refine sj_aload_n 1 dX7_find_33 rfl ?_
  refine sj_getR fdX7_12_6 hf dX7_find_34 (fun v5 hf => ?_)
  refine sj_getR fdX7_214_2 hf dX7_find_37 (fun v6 hf => ?_)
  obtain ⟨fs40, he40, hf⟩ := sd_isC_some hf
  refine sj_cI (rest := [.ref r4]) (fun _ _ _ e => sj_runV (n := 0) (As := []) (rest := [.ref r4]) (sJ2_size l G v6 h _ _ _ e) he40 rfl rfl rfl rfl q1807 q490 q491 q121 q492 (by decide +kernel) rfl rfl ⟨Nat.le_of_ble_eq_true rfl, Nat.le_of_ble_eq_true rfl⟩ rfl (Nat.le_of_ble_eq_true rfl) dX7_find_40) hf (fun r7 h c hf => ?_)
  refine sj_put (fpX7_212_3 _ _) hf dX7_find_43 (fun h hf => ?_)
  refine sj_iconst (v := 0) dX7_find_46 (by decide) ?_
  refine sj_istore [(4, .int 0), (3, .ref r4), (0, .ref w0), (1, .ref w1), (2, .int w2)] dX7_find_47 (by decide) rfl ?_
  refine sj_iload_n 4 dX7_find_49 rfl ?_
  refine sj_ifeq 68 hf dX7_find_50 (by decide) (fun g50 hf => ?_) (fun g50 hf => ?_)
  · refine sj_aload_n 2 dX7_find_68 rfl ?_
    refine sj_ldcS 14 rfl dX7_find_69 ?_
    obtain ⟨fs71, he71, hf⟩ := sd_isC_some hf
    refine sj_xV (rest := []) (fun _ _ _ e => sj_runV (n := 1) (As := [.ref (sd_ad G 114)]) (rest := []) (sX7_take_2 l hl G w0 (sd_ad G 114) h _ _ _ e) he71 rfl rfl rfl rfl q1085 q1087 qs13 q134 q1088 (by decide +kernel) rfl rfl ⟨Nat.le_of_ble_eq_true rfl, Nat.le_of_ble_eq_true rfl⟩ rfl (Nat.le_of_ble_eq_true rfl) dX7_find_71) hf (fun e71 h c hf => ?_) (fun h c hf => ?_)
    · exact sj_outX hf rfl (by intro x hx; cases hx)
    refine sj_aload_n 2 dX7_find_74 rfl ?_
    refine sj_aload_n 2 dX7_find_75 rfl ?_
    refine sj_getR fdX7_21_6 hf dX7_find_76 (fun v8 hf => ?_)
    obtain ⟨fs79, he79, hf⟩ := sd_isC_some hf
    refine sj_xI (rest := []) (fun _ _ _ e => sj_runV (n := 1) (As := [.ref v8]) (rest := []) (sX7_known l hl G w0 v8 h _ _ _ e) he79 rfl rfl rfl rfl q1820 q1822 qs20 q134 q1823 (by decide +kernel) rfl rfl ⟨Nat.le_of_ble_eq_true rfl, Nat.le_of_ble_eq_true rfl⟩ rfl (Nat.le_of_ble_eq_true rfl) dX7_find_79) hf (fun e79 h c hf => ?_) (fun r9 h c hf => ?_)
    · exact sj_outX hf rfl (by intro x hx; cases hx)
    refine sj_istore [(4, .int r9), (3, .ref r4), (0, .ref w0), (1, .ref w1), (2, .int w2)] dX7_find_82 (by decide) rfl ?_
    exact sj_loc [2, 4, 1, 0] rfl (sX7_find_b84 l hl G a0 a1 a2 ρ h2 cT w0 w2 r4 r9 _ _ hf)
  · refine sj_aload_n 2 dX7_find_53 rfl ?_
    refine sj_ldcS 13 rfl dX7_find_54 ?_
    refine sj_iconst (v := 0) dX7_find_56 (by decide) ?_
    refine sj_sipush (v := 999) dX7_find_57 (by decide) ?_
    obtain ⟨fs60, he60, hf⟩ := sd_isC_some hf
    refine sj_xI (rest := []) (fun _ _ _ e => sj_runV (n := 3) (As := [.ref (sd_ad G 113), .int 0, .int 999]) (rest := []) (sX7_numberOf l hl G w0 (sd_ad G 113) 0 999 h _ _ _ e) he60 rfl rfl rfl rfl q1081 q1083 qs12 q134 q1084 (by decide +kernel) rfl rfl ⟨Nat.le_of_ble_eq_true rfl, Nat.le_of_ble_eq_true rfl⟩ rfl (Nat.le_of_ble_eq_true rfl) dX7_find_60) hf (fun e60 h c hf => ?_) (fun r15 h c hf => ?_)
    · exact sj_outX hf rfl (by intro x hx; cases hx)
    refine sj_istore [(4, .int r15), (3, .ref r4), (0, .ref w0), (1, .ref w1), (2, .int w2)] dX7_find_63 (by decide) rfl ?_
    refine sj_goto 84 dX7_find_65 (by decide) ?_
    exact sj_loc [2, 4, 1, 0] rfl (sX7_find_b84 l hl G a0 a1 a2 ρ h2 cT w0 w2 r4 r15 _ _ hf)
def fX7_find (G : sd_G) (a0 : Nat) (a1 : Nat) (a2 : Int32) : sd_M (Unit ⊕ Nat) :=
  sd_bnd (sd_getR G 6 4 a0) fun v1 =>
  sd_bnd (sd_getR G 2 4 v1) fun v2 =>
  sd_bnd (sd_isC G 41 v2) fun _ =>
  sd_bnd (fJ2_size G v2) fun r3 =>
  if 24 ≤ r3 then (
    fX7_find_b22 G a0 a1 a2 0 4 a0)
  else (
    fX7_find_b22 G a0 a1 a2 1 4 a0)
set_option maxHeartbeats 4000000 in
theorem sX7_find (l : Launch) (hl : l.stackTraces = false) (G : sd_G) (a0 : Nat) (a1 : Nat) (a2 : Int32) (h : sd_H) (ρ : Unit ⊕ Nat) (cT : Nat × Nat) (h2 : sd_H) (hf : fX7_find G a0 a1 a2 h = some (ρ, cT, h2)) : sd_Met mX7_find ((l, G), (9, 182), [.ref a0, .ref a1, .int a2], ((sd_ox sd_oV) ρ, h2), cT) h := by
  refine sd_entry (plainFor_of_name rfl) rfl (Nat.le_of_ble_eq_true rfl) ?_
  show sd_J mX7_find ((l, G), (9, 182), [.ref a0, .ref a1, .int a2], ((sd_ox sd_oV) ρ, h2), cT) 0 [(0, .ref a0), (1, .ref a1), (2, .int a2)] [] h cT
  unfold fX7_find at hf
  refine sj_aload_n 0 dX7_find_0 rfl ?_
  refine sj_iconst (v := 4) dX7_find_1 (by decide) ?_
  refine sj_aload_n 0 dX7_find_2 rfl ?_
  refine sj_getR fdX7_12_6 hf dX7_find_3 (fun v1 hf => ?_)
  refine sj_getR fdX7_214_2 hf dX7_find_6 (fun v2 hf => ?_)
  obtain ⟨fs9, he9, hf⟩ := sd_isC_some hf
  refine sj_cI (rest := [.int 4, .ref a0]) (fun _ _ _ e => sj_runV (n := 0) (As := []) (rest := [.int 4, .ref a0]) (sJ2_size l G v2 h _ _ _ e) he9 rfl rfl rfl rfl q1807 q490 q491 q121 q492 (by decide +kernel) rfl rfl ⟨Nat.le_of_ble_eq_true rfl, Nat.le_of_ble_eq_true rfl⟩ rfl (Nat.le_of_ble_eq_true rfl) dX7_find_9) hf (fun r3 h c hf => ?_)
  refine sj_bipush (v := 24) dX7_find_12 (by decide) ?_
  refine sj_icge 21 hf dX7_find_14 (by decide) (fun g14 hf => ?_) (fun g14 hf => ?_)
  · refine sj_iconst (v := 0) dX7_find_21 (by decide) ?_
    exact sj_loc [0, 1, 2] rfl (sX7_find_b22 l hl G a0 a1 a2 ρ h2 cT a0 a1 a2 0 4 a0 _ _ hf)
  · refine sj_iconst (v := 1) dX7_find_17 (by decide) ?_
    refine sj_goto 22 dX7_find_18 (by decide) ?_
    exact sj_loc [0, 1, 2] rfl (sX7_find_b22 l hl G a0 a1 a2 ρ h2 cT a0 a1 a2 1 4 a0 _ _ hf)
/-! SofaDig$Reader.craft()LSofaDig$Craft; -/
abbrev cX7_craft : ByteArray := prog_18_method_22_code
def yX7_craft : MethodName := ⟨RX7, "craft", "()LSofaDig$Craft;"⟩
def dkwX7_craft_1 : List UInt8 := [180, 1, 11, 182, 0, 55, 153, 0, 6, 25, 4, 176, 132, 3, 1, 167, 255, 228, 42, 182, 0, 58, 191]
abbrev dktX7_craft_1 : List UInt8 := dkwX7_craft_1 ++ []
def dkwX7_craft_0 : List UInt8 := [178, 1, 5, 76, 43, 190, 61, 3, 62, 29, 28, 162, 0, 29, 43, 29, 50, 58, 4, 42, 25, 4]
abbrev dktX7_craft_0 : List UInt8 := dkwX7_craft_0 ++ dktX7_craft_1
theorem dksX7_craft_0 : cX7_craft.data.toList.drop 0 = dktX7_craft_0 := by decide +kernel
theorem dksX7_craft_1 : cX7_craft.data.toList.drop 22 = dktX7_craft_1 := dk_seg dksX7_craft_0 22 rfl rfl
theorem dX7_craft_0 : decode cX7_craft 0 = .ok (.getstatic 261, 3) := dk_178 1 5 (dk_at dksX7_craft_0 0 rfl rfl)
theorem dX7_craft_3 : decode cX7_craft 3 = .ok (.astore_n 1, 1) := dk_76 (dk_at dksX7_craft_0 3 rfl rfl)
theorem dX7_craft_4 : decode cX7_craft 4 = .ok (.aload_n 1, 1) := dk_43 (dk_at dksX7_craft_0 4 rfl rfl)
theorem dX7_craft_5 : decode cX7_craft 5 = .ok (.arraylength, 1) := dk_190 (dk_at dksX7_craft_0 5 rfl rfl)
theorem dX7_craft_6 : decode cX7_craft 6 = .ok (.istore_n 2, 1) := dk_61 (dk_at dksX7_craft_0 6 rfl rfl)
theorem dX7_craft_7 : decode cX7_craft 7 = .ok (.iconst 0, 1) := dk_3 (dk_at dksX7_craft_0 7 rfl rfl)
theorem dX7_craft_8 : decode cX7_craft 8 = .ok (.istore_n 3, 1) := dk_62 (dk_at dksX7_craft_0 8 rfl rfl)
theorem dX7_craft_9 : decode cX7_craft 9 = .ok (.iload_n 3, 1) := dk_29 (dk_at dksX7_craft_0 9 rfl rfl)
theorem dX7_craft_10 : decode cX7_craft 10 = .ok (.iload_n 2, 1) := dk_28 (dk_at dksX7_craft_0 10 rfl rfl)
theorem dX7_craft_11 : decode cX7_craft 11 = .ok (.if_icmp .ge 29, 3) := dk_162 0 29 (dk_at dksX7_craft_0 11 rfl rfl)
theorem dX7_craft_14 : decode cX7_craft 14 = .ok (.aload_n 1, 1) := dk_43 (dk_at dksX7_craft_0 14 rfl rfl)
theorem dX7_craft_15 : decode cX7_craft 15 = .ok (.iload_n 3, 1) := dk_29 (dk_at dksX7_craft_0 15 rfl rfl)
theorem dX7_craft_16 : decode cX7_craft 16 = .ok (.aaload, 1) := dk_50 (dk_at dksX7_craft_0 16 rfl rfl)
theorem dX7_craft_17 : decode cX7_craft 17 = .ok (.astore 4, 2) := dk_58 4 (dk_at dksX7_craft_0 17 rfl rfl)
theorem dX7_craft_19 : decode cX7_craft 19 = .ok (.aload_n 0, 1) := dk_42 (dk_at dksX7_craft_0 19 rfl rfl)
theorem dX7_craft_20 : decode cX7_craft 20 = .ok (.aload 4, 2) := dk_25 4 (dk_at dksX7_craft_0 20 rfl rfl)
theorem dX7_craft_22 : decode cX7_craft 22 = .ok (.getfield 267, 3) := dk_180 1 11 (dk_at dksX7_craft_1 0 rfl rfl)
theorem dX7_craft_25 : decode cX7_craft 25 = .ok (.invokevirtual 55, 3) := dk_182 0 55 (dk_at dksX7_craft_1 3 rfl rfl)
theorem dX7_craft_28 : decode cX7_craft 28 = .ok (.ifCond .eq 6, 3) := dk_153 0 6 (dk_at dksX7_craft_1 6 rfl rfl)
theorem dX7_craft_31 : decode cX7_craft 31 = .ok (.aload 4, 2) := dk_25 4 (dk_at dksX7_craft_1 9 rfl rfl)
theorem dX7_craft_33 : decode cX7_craft 33 = .ok (.areturn, 1) := dk_176 (dk_at dksX7_craft_1 11 rfl rfl)
theorem dX7_craft_34 : decode cX7_craft 34 = .ok (.iinc 3 1, 3) := dk_132 3 1 (dk_at dksX7_craft_1 12 rfl rfl)
theorem dX7_craft_37 : decode cX7_craft 37 = .ok (.goto (-28), 3) := dk_167 255 228 (dk_at dksX7_craft_1 15 rfl rfl)
theorem dX7_craft_40 : decode cX7_craft 40 = .ok (.aload_n 0, 1) := dk_42 (dk_at dksX7_craft_1 18 rfl rfl)
theorem dX7_craft_41 : decode cX7_craft 41 = .ok (.invokevirtual 58, 3) := dk_182 0 58 (dk_at dksX7_craft_1 19 rfl rfl)
theorem dX7_craft_44 : decode cX7_craft 44 = .ok (.athrow, 1) := dk_191 (dk_at dksX7_craft_1 22 rfl rfl)
abbrev mX7_craft : sd_Y := (yX7_craft, cX7_craft, 5, some (.object "SofaDig$Craft"), none)
def fX7_craft_b9 (G : sd_G) (k9 : Nat × Nat × Int32 × Int32 → sd_M (Nat ⊕ Nat)) (w0 : Nat) (w1 : Nat) (w2 : Int32) (w3 : Int32) : sd_M (Nat ⊕ Nat) :=
  if w2 ≤ w3 then (
    sd_bnd (sd_isC G 6 w0) fun _ =>
    sd_bnd (fX7_wrong G w0) fun r2 =>
    sd_bnd (sd_own r2) fun k44 => if k44 = 9 then sd_ret (.inr r2) else sd_fail)
  else (
    sd_bnd (sd_aldR G 7 w1 w3) fun v3 =>
    sd_bnd (sd_cget G 0 v3) fun v4 =>
    sd_bnd (sd_isC G 6 w0) fun _ =>
    sd_bnd (fX7_takeIf G w0 v4) fun r5 =>
    if r5 = 0 then (
      sd_bnd (sd_ret (w3 + 1)) fun x6 =>
      k9 (w0, w1, w2, x6))
    else (
      sd_ret (.inl v3)))
set_option maxHeartbeats 4000000 in
theorem sX7_craft_b9 (l : Launch) (hl : l.stackTraces = false) (G : sd_G) (a0 : Nat) (ρ : Nat ⊕ Nat) (h2 : sd_H) (cT : Nat × Nat) (k9 : Nat × Nat × Int32 × Int32 → sd_M (Nat ⊕ Nat)) (Hk9 : ∀ (q : Nat × Nat × Int32 × Int32) (h : sd_H) (c : Nat × Nat), k9 q h = some (ρ, c, h2) → sd_J mX7_craft ((l, G), (6, 106), [.ref a0], ((sd_ox sd_oR) ρ, h2), cT) 9 [(0, .ref q.1), (1, .ref q.2.1), (2, .int q.2.2.1), (3, .int q.2.2.2)] [] h c) (w0 : Nat) (w1 : Nat) (w2 : Int32) (w3 : Int32) (h : sd_H) (c : Nat × Nat) (hf : fX7_craft_b9 G k9 w0 w1 w2 w3 h = some (ρ, c, h2)) : sd_J mX7_craft ((l, G), (6, 106), [.ref a0], ((sd_ox sd_oR) ρ, h2), cT) 9 [(0, .ref w0), (1, .ref w1), (2, .int w2), (3, .int w3)] [] h c := by
  unfold fX7_craft_b9 at hf
  refine sj_iload_n 3 dX7_craft_9 rfl ?_
  refine sj_iload_n 2 dX7_craft_10 rfl ?_
  refine sj_icge 40 hf dX7_craft_11 (by decide) (fun g11 hf => ?_) (fun g11 hf => ?_)
  · refine sj_aload_n 0 dX7_craft_40 rfl ?_
    obtain ⟨fs41, he41, hf⟩ := sd_isC_some hf
    refine sj_cR (rest := []) (fun _ _ _ e => sj_runV (n := 0) (As := []) (rest := []) (sX7_wrong l hl G w0 h _ _ _ e) he41 rfl rfl rfl rfl q1030 q1032 qs10 q134 q1033 (by decide +kernel) rfl rfl ⟨Nat.le_of_ble_eq_true rfl, Nat.le_of_ble_eq_true rfl⟩ rfl (Nat.le_of_ble_eq_true rfl) dX7_craft_41) hf (fun r2 h c hf => ?_)
    obtain ⟨ci44, fs44, he44, hf⟩ := sd_own_some hf
    by_cases z44 : ci44 = 9
    · rw [if_pos z44] at hf; subst z44; exact sj_athrow he44 rfl dX7_craft_44 (sj_outX hf rfl (by intro x hx; cases hx))
    · rw [if_neg z44] at hf; cases hf
  · refine sj_aload_n 1 dX7_craft_14 rfl ?_
    refine sj_iload_n 3 dX7_craft_15 rfl ?_
    refine sj_aald rfl rfl hf dX7_craft_16 (fun v3 hf => ?_)
    refine sj_astore [(4, .ref v3), (0, .ref w0), (1, .ref w1), (2, .int w2), (3, .int w3)] dX7_craft_17 (by decide) rfl ?_
    refine sj_aload_n 1 dX7_craft_19 rfl ?_
    refine sj_aload 0 dX7_craft_20 rfl ?_
    refine sj_cget 0 rfl (Or.inr ⟨_, q3521⟩) hf dX7_craft_22 (fun v4 hf => ?_)
    obtain ⟨fs25, he25, hf⟩ := sd_isC_some hf
    refine sj_cI (rest := []) (fun _ _ _ e => sj_runV (n := 1) (As := [.ref v4]) (rest := []) (sX7_takeIf l G w0 v4 h _ _ _ e) he25 rfl rfl rfl rfl q987 q989 qs6 q134 q990 (by decide +kernel) rfl rfl ⟨Nat.le_of_ble_eq_true rfl, Nat.le_of_ble_eq_true rfl⟩ rfl (Nat.le_of_ble_eq_true rfl) dX7_craft_25) hf (fun r5 h c hf => ?_)
    refine sj_ifeq 34 hf dX7_craft_28 (by decide) (fun g28 hf => ?_) (fun g28 hf => ?_)
    · refine sj_iincN 4 (fun x6 => [(3, .int x6), (4, .ref v3), (0, .ref w0), (1, .ref w1), (2, .int w2)]) 1 hf dX7_craft_34 rfl (by decide) (by decide) (fun _ => rfl) (fun x6 hf => ?_)
      refine sj_goto 9 dX7_craft_37 (by decide) ?_
      exact sj_loc [2, 3, 4, 0] rfl (Hk9 (w0, w1, w2, x6) _ _ hf)
    · refine sj_aload 0 dX7_craft_31 rfl ?_
      exact sj_aret (o := (sd_ox sd_oR)) hf rfl rfl rfl (Or.inl ⟨_, rfl⟩) dX7_craft_33
theorem sX7_craft_b9_loop (l : Launch) (hl : l.stackTraces = false) (G : sd_G) (a0 : Nat) (ρ : Nat ⊕ Nat) (h2 : sd_H) (cT : Nat × Nat) (n : Nat) : ∀ (q : Nat × Nat × Int32 × Int32) (h : sd_H) (c : Nat × Nat), sd_loop (fun k s => fX7_craft_b9 G k s.1 s.2.1 s.2.2.1 s.2.2.2) n q h = some (ρ, c, h2) → sd_J mX7_craft ((l, G), (6, 106), [.ref a0], ((sd_ox sd_oR) ρ, h2), cT) 9 [(0, .ref q.1), (1, .ref q.2.1), (2, .int q.2.2.1), (3, .int q.2.2.2)] [] h c := by
  induction n with
  | zero => intro q h c hf; cases hf
  | succ n ih => intro q h c hf; exact sX7_craft_b9 l hl G a0 ρ h2 cT _ ih _ _ _ _ _ _ hf
def fX7_craft (G : sd_G) (a0 : Nat) : sd_M (Nat ⊕ Nat) :=
  sd_bnd (sd_alen G (sd_ad G 9)) fun v1 =>
  sd_loop (fun k s => fX7_craft_b9 G k s.1 s.2.1 s.2.2.1 s.2.2.2) sd_FU (a0, (sd_ad G 9), v1, 0)
set_option maxHeartbeats 4000000 in
theorem sX7_craft (l : Launch) (hl : l.stackTraces = false) (G : sd_G) (a0 : Nat) (h : sd_H) (ρ : Nat ⊕ Nat) (cT : Nat × Nat) (h2 : sd_H) (hf : fX7_craft G a0 h = some (ρ, cT, h2)) : sd_Met mX7_craft ((l, G), (6, 106), [.ref a0], ((sd_ox sd_oR) ρ, h2), cT) h := by
  refine sd_entry (plainFor_of_name rfl) rfl (Nat.le_of_ble_eq_true rfl) ?_
  show sd_J mX7_craft ((l, G), (6, 106), [.ref a0], ((sd_ox sd_oR) ρ, h2), cT) 0 [(0, .ref a0)] [] h cT
  unfold fX7_craft at hf
  refine sj_gets (v := .ref (sd_ad G 9)) 25 rfl rfl ⟨Or.inr ⟨_, q1862⟩, rfl⟩ dX7_craft_0 ?_
  refine sj_astore_n [(1, .ref (sd_ad G 9)), (0, .ref a0)] dX7_craft_3 (by decide) rfl ?_
  refine sj_aload_n 0 dX7_craft_4 rfl ?_
  refine sj_alen hf dX7_craft_5 (fun v1 hf => ?_)
  refine sj_istore_n [(2, .int v1), (1, .ref (sd_ad G 9)), (0, .ref a0)] dX7_craft_6 (by decide) rfl ?_
  refine sj_iconst (v := 0) dX7_craft_7 (by decide) ?_
  refine sj_istore_n [(3, .int 0), (2, .int v1), (1, .ref (sd_ad G 9)), (0, .ref a0)] dX7_craft_8 (by decide) rfl ?_
  exact sj_loc [3, 2, 1, 0] rfl (sX7_craft_b9_loop l hl G a0 ρ h2 cT sd_FU (a0, (sd_ad G 9), v1, 0) _ _ hf)
/-! SofaDig$Reader.which(LSofaDig$Kind;)I -/
abbrev cX7_which : ByteArray := prog_18_method_28_code
def yX7_which : MethodName := ⟨RX7, "which", "(LSofaDig$Kind;)I"⟩
def dkwX7_which_0 : List UInt8 := [43, 178, 1, 115, 166, 0, 5, 2, 172, 42, 18, 220, 182, 0, 69, 42, 42, 180, 0, 21, 182, 0, 222, 172]
abbrev dktX7_which_0 : List UInt8 := dkwX7_which_0 ++ []
theorem dksX7_which_0 : cX7_which.data.toList.drop 0 = dktX7_which_0 := by decide +kernel
theorem dX7_which_0 : decode cX7_which 0 = .ok (.aload_n 1, 1) := dk_43 (dk_at dksX7_which_0 0 rfl rfl)
theorem dX7_which_1 : decode cX7_which 1 = .ok (.getstatic 371, 3) := dk_178 1 115 (dk_at dksX7_which_0 1 rfl rfl)
theorem dX7_which_4 : decode cX7_which 4 = .ok (.if_acmp .ne 5, 3) := dk_166 0 5 (dk_at dksX7_which_0 4 rfl rfl)
theorem dX7_which_7 : decode cX7_which 7 = .ok (.iconst (-1), 1) := dk_2 (dk_at dksX7_which_0 7 rfl rfl)
theorem dX7_which_8 : decode cX7_which 8 = .ok (.ireturn, 1) := dk_172 (dk_at dksX7_which_0 8 rfl rfl)
theorem dX7_which_9 : decode cX7_which 9 = .ok (.aload_n 0, 1) := dk_42 (dk_at dksX7_which_0 9 rfl rfl)
theorem dX7_which_10 : decode cX7_which 10 = .ok (.ldc 220, 2) := dk_18 220 (dk_at dksX7_which_0 10 rfl rfl)
theorem dX7_which_12 : decode cX7_which 12 = .ok (.invokevirtual 69, 3) := dk_182 0 69 (dk_at dksX7_which_0 12 rfl rfl)
theorem dX7_which_15 : decode cX7_which 15 = .ok (.aload_n 0, 1) := dk_42 (dk_at dksX7_which_0 15 rfl rfl)
theorem dX7_which_16 : decode cX7_which 16 = .ok (.aload_n 0, 1) := dk_42 (dk_at dksX7_which_0 16 rfl rfl)
theorem dX7_which_17 : decode cX7_which 17 = .ok (.getfield 21, 3) := dk_180 0 21 (dk_at dksX7_which_0 17 rfl rfl)
theorem dX7_which_20 : decode cX7_which 20 = .ok (.invokevirtual 222, 3) := dk_182 0 222 (dk_at dksX7_which_0 20 rfl rfl)
theorem dX7_which_23 : decode cX7_which 23 = .ok (.ireturn, 1) := dk_172 (dk_at dksX7_which_0 23 rfl rfl)
abbrev mX7_which : sd_Y := (yX7_which, cX7_which, 2, some (.int), none)
def fX7_which (G : sd_G) (a0 : Nat) (a1 : Nat) : sd_M (Int32 ⊕ Nat) :=
  if a1 = (sd_ad G 11) then (
    sd_ret (.inl (-1)))
  else (
    sd_bnd (sd_isC G 6 a0) fun _ =>
    sd_bx (fX7_take_2 G a0 (sd_ad G 114)) (fun e12 =>
      sd_ret (.inr e12)) fun _ =>
    sd_bnd (sd_getR G 6 5 a0) fun v1 =>
    sd_bnd (sd_isC G 6 a0) fun _ =>
    sd_bx (fX7_known G a0 v1) (fun e20 =>
      sd_ret (.inr e20)) fun r2 =>
    sd_ret (.inl r2))
set_option maxHeartbeats 4000000 in
theorem sX7_which (l : Launch) (hl : l.stackTraces = false) (G : sd_G) (a0 : Nat) (a1 : Nat) (h : sd_H) (ρ : Int32 ⊕ Nat) (cT : Nat × Nat) (h2 : sd_H) (hf : fX7_which G a0 a1 h = some (ρ, cT, h2)) : sd_Met mX7_which ((l, G), (8, 182), [.ref a0, .ref a1], ((sd_ox sd_oI) ρ, h2), cT) h := by
  refine sd_entry (plainFor_of_name rfl) rfl (Nat.le_of_ble_eq_true rfl) ?_
  show sd_J mX7_which ((l, G), (8, 182), [.ref a0, .ref a1], ((sd_ox sd_oI) ρ, h2), cT) 0 [(0, .ref a0), (1, .ref a1)] [] h cT
  unfold fX7_which at hf
  refine sj_aload_n 1 dX7_which_0 rfl ?_
  refine sj_gets (v := .ref (sd_ad G 11)) 27 rfl rfl ⟨Or.inl q1897, rfl⟩ dX7_which_1 ?_
  refine sj_acneR 9 hf dX7_which_4 (by decide) (fun g4 hf => ?_) (fun g4 hf => ?_)
  · refine sj_aload_n 0 dX7_which_9 rfl ?_
    refine sj_ldcS 14 rfl dX7_which_10 ?_
    obtain ⟨fs12, he12, hf⟩ := sd_isC_some hf
    refine sj_xV (rest := []) (fun _ _ _ e => sj_runV (n := 1) (As := [.ref (sd_ad G 114)]) (rest := []) (sX7_take_2 l hl G a0 (sd_ad G 114) h _ _ _ e) he12 rfl rfl rfl rfl q1085 q1087 qs13 q134 q1088 (by decide +kernel) rfl rfl ⟨Nat.le_of_ble_eq_true rfl, Nat.le_of_ble_eq_true rfl⟩ rfl (Nat.le_of_ble_eq_true rfl) dX7_which_12) hf (fun e12 h c hf => ?_) (fun h c hf => ?_)
    · exact sj_outX hf rfl (by intro x hx; cases hx)
    refine sj_aload_n 0 dX7_which_15 rfl ?_
    refine sj_aload_n 0 dX7_which_16 rfl ?_
    refine sj_getR fdX7_21_6 hf dX7_which_17 (fun v1 hf => ?_)
    obtain ⟨fs20, he20, hf⟩ := sd_isC_some hf
    refine sj_xI (rest := []) (fun _ _ _ e => sj_runV (n := 1) (As := [.ref v1]) (rest := []) (sX7_known l hl G a0 v1 h _ _ _ e) he20 rfl rfl rfl rfl q1820 q1822 qs20 q134 q1823 (by decide +kernel) rfl rfl ⟨Nat.le_of_ble_eq_true rfl, Nat.le_of_ble_eq_true rfl⟩ rfl (Nat.le_of_ble_eq_true rfl) dX7_which_20) hf (fun e20 h c hf => ?_) (fun r2 h c hf => ?_)
    · exact sj_outX hf rfl (by intro x hx; cases hx)
    exact sj_iret (o := (sd_ox sd_oI)) hf rfl rfl rfl dX7_which_23
  · refine sj_iconst (v := (-1)) dX7_which_7 (by decide) ?_
    exact sj_iret (o := (sd_ox sd_oI)) hf rfl rfl rfl dX7_which_8
/-! SofaDig$Reader.deeper(Ljava/lang/String;)V -/
abbrev cX7_deeper : ByteArray := prog_18_method_7_code
def yX7_deeper : MethodName := ⟨RX7, "deeper", "(Ljava/lang/String;)V"⟩
def dkwX7_deeper_1 : List UInt8 := [191, 42, 89, 180, 0, 66, 4, 96, 181, 0, 66, 42, 89, 180, 0, 29, 4, 96, 181, 0, 29, 177]
abbrev dktX7_deeper_1 : List UInt8 := dkwX7_deeper_1 ++ []
def dkwX7_deeper_0 : List UInt8 := [42, 182, 0, 43, 43, 182, 0, 51, 153, 0, 12, 42, 180, 0, 66, 16, 8, 160, 0, 8, 42, 182, 0, 58]
abbrev dktX7_deeper_0 : List UInt8 := dkwX7_deeper_0 ++ dktX7_deeper_1
theorem dksX7_deeper_0 : cX7_deeper.data.toList.drop 0 = dktX7_deeper_0 := by decide +kernel
theorem dksX7_deeper_1 : cX7_deeper.data.toList.drop 24 = dktX7_deeper_1 := dk_seg dksX7_deeper_0 24 rfl rfl
theorem dX7_deeper_0 : decode cX7_deeper 0 = .ok (.aload_n 0, 1) := dk_42 (dk_at dksX7_deeper_0 0 rfl rfl)
theorem dX7_deeper_1 : decode cX7_deeper 1 = .ok (.invokevirtual 43, 3) := dk_182 0 43 (dk_at dksX7_deeper_0 1 rfl rfl)
theorem dX7_deeper_4 : decode cX7_deeper 4 = .ok (.aload_n 1, 1) := dk_43 (dk_at dksX7_deeper_0 4 rfl rfl)
theorem dX7_deeper_5 : decode cX7_deeper 5 = .ok (.invokevirtual 51, 3) := dk_182 0 51 (dk_at dksX7_deeper_0 5 rfl rfl)
theorem dX7_deeper_8 : decode cX7_deeper 8 = .ok (.ifCond .eq 12, 3) := dk_153 0 12 (dk_at dksX7_deeper_0 8 rfl rfl)
theorem dX7_deeper_11 : decode cX7_deeper 11 = .ok (.aload_n 0, 1) := dk_42 (dk_at dksX7_deeper_0 11 rfl rfl)
theorem dX7_deeper_12 : decode cX7_deeper 12 = .ok (.getfield 66, 3) := dk_180 0 66 (dk_at dksX7_deeper_0 12 rfl rfl)
theorem dX7_deeper_15 : decode cX7_deeper 15 = .ok (.bipush 8, 2) := dk_16 8 (dk_at dksX7_deeper_0 15 rfl rfl)
theorem dX7_deeper_17 : decode cX7_deeper 17 = .ok (.if_icmp .ne 8, 3) := dk_160 0 8 (dk_at dksX7_deeper_0 17 rfl rfl)
theorem dX7_deeper_20 : decode cX7_deeper 20 = .ok (.aload_n 0, 1) := dk_42 (dk_at dksX7_deeper_0 20 rfl rfl)
theorem dX7_deeper_21 : decode cX7_deeper 21 = .ok (.invokevirtual 58, 3) := dk_182 0 58 (dk_at dksX7_deeper_0 21 rfl rfl)
theorem dX7_deeper_24 : decode cX7_deeper 24 = .ok (.athrow, 1) := dk_191 (dk_at dksX7_deeper_1 0 rfl rfl)
theorem dX7_deeper_25 : decode cX7_deeper 25 = .ok (.aload_n 0, 1) := dk_42 (dk_at dksX7_deeper_1 1 rfl rfl)
theorem dX7_deeper_26 : decode cX7_deeper 26 = .ok (.dup, 1) := dk_89 (dk_at dksX7_deeper_1 2 rfl rfl)
theorem dX7_deeper_27 : decode cX7_deeper 27 = .ok (.getfield 66, 3) := dk_180 0 66 (dk_at dksX7_deeper_1 3 rfl rfl)
theorem dX7_deeper_30 : decode cX7_deeper 30 = .ok (.iconst 1, 1) := dk_4 (dk_at dksX7_deeper_1 6 rfl rfl)
theorem dX7_deeper_31 : decode cX7_deeper 31 = .ok (.iadd, 1) := dk_96 (dk_at dksX7_deeper_1 7 rfl rfl)
theorem dX7_deeper_32 : decode cX7_deeper 32 = .ok (.putfield 66, 3) := dk_181 0 66 (dk_at dksX7_deeper_1 8 rfl rfl)
theorem dX7_deeper_35 : decode cX7_deeper 35 = .ok (.aload_n 0, 1) := dk_42 (dk_at dksX7_deeper_1 11 rfl rfl)
theorem dX7_deeper_36 : decode cX7_deeper 36 = .ok (.dup, 1) := dk_89 (dk_at dksX7_deeper_1 12 rfl rfl)
theorem dX7_deeper_37 : decode cX7_deeper 37 = .ok (.getfield 29, 3) := dk_180 0 29 (dk_at dksX7_deeper_1 13 rfl rfl)
theorem dX7_deeper_40 : decode cX7_deeper 40 = .ok (.iconst 1, 1) := dk_4 (dk_at dksX7_deeper_1 16 rfl rfl)
theorem dX7_deeper_41 : decode cX7_deeper 41 = .ok (.iadd, 1) := dk_96 (dk_at dksX7_deeper_1 17 rfl rfl)
theorem dX7_deeper_42 : decode cX7_deeper 42 = .ok (.putfield 29, 3) := dk_181 0 29 (dk_at dksX7_deeper_1 18 rfl rfl)
theorem dX7_deeper_45 : decode cX7_deeper 45 = .ok (.return_, 1) := dk_177 (dk_at dksX7_deeper_1 21 rfl rfl)
theorem fdX7_66_6 : sd_Fd "SofaDig$Reader" 66 6 2 := ⟨(RX7, TX7, 6), "SofaDig$Reader", rfl, by decide, rfl, in_X7, Or.inl rfl, Or.inl q961⟩
theorem fpX7_66_6 (n d : String) : sd_Fp ⟨"SofaDig$Reader", n, d⟩ 66 6 2 .int := ⟨(RX7, TX7, 6), "SofaDig$Reader", tyX7, rfl, by decide, rfl, in_X7, Or.inl rfl, tyX7_ok, nmX7, rfl, Or.inl ⟨rfl, Or.inl q961⟩⟩
abbrev mX7_deeper : sd_Y := (yX7_deeper, cX7_deeper, 2, none, none)
def fX7_deeper (G : sd_G) (a0 : Nat) (a1 : Nat) : sd_M (Unit ⊕ Nat) :=
  sd_bnd (sd_isC G 6 a0) fun _ =>
  sd_bnd (fX7_now G a0) fun r1 =>
  sd_bnd (sd_isC G 8 r1) fun _ =>
  sd_bnd (fX9_is G r1 a1) fun r2 =>
  if r2 = 0 then (
    sd_bnd (sd_isC G 6 a0) fun _ =>
    sd_bnd (fX7_wrong G a0) fun r3 =>
    sd_bnd (sd_own r3) fun k24 => if k24 = 9 then sd_ret (.inr r3) else sd_fail)
  else (
    sd_bnd (sd_getI G 6 2 a0) fun v4 =>
    if v4 = 8 then (
      sd_bnd (sd_isC G 6 a0) fun _ =>
      sd_bnd (fX7_wrong G a0) fun r7 =>
      sd_bnd (sd_own r7) fun k24 => if k24 = 9 then sd_ret (.inr r7) else sd_fail)
    else (
      sd_bnd (sd_getI G 6 2 a0) fun v5 =>
      sd_bnd (sd_put 6 2 .int a0 (.int (v5 + 1))) fun _ =>
      sd_bnd (sd_getI G 6 1 a0) fun v6 =>
      sd_bnd (sd_put 6 1 .int a0 (.int (v6 + 1))) fun _ =>
      sd_ret (.inl ())))
set_option maxHeartbeats 4000000 in
theorem sX7_deeper (l : Launch) (hl : l.stackTraces = false) (G : sd_G) (a0 : Nat) (a1 : Nat) (h : sd_H) (ρ : Unit ⊕ Nat) (cT : Nat × Nat) (h2 : sd_H) (hf : fX7_deeper G a0 a1 h = some (ρ, cT, h2)) : sd_Met mX7_deeper ((l, G), (6, 104), [.ref a0, .ref a1], ((sd_ox sd_oV) ρ, h2), cT) h := by
  refine sd_entry (plainFor_of_name rfl) rfl (Nat.le_of_ble_eq_true rfl) ?_
  show sd_J mX7_deeper ((l, G), (6, 104), [.ref a0, .ref a1], ((sd_ox sd_oV) ρ, h2), cT) 0 [(0, .ref a0), (1, .ref a1)] [] h cT
  unfold fX7_deeper at hf
  refine sj_aload_n 0 dX7_deeper_0 rfl ?_
  obtain ⟨fs1, he1, hf⟩ := sd_isC_some hf
  refine sj_cR (rest := []) (fun _ _ _ e => sj_runV (n := 0) (As := []) (rest := []) (sX7_now l G a0 h _ _ _ e) he1 rfl rfl rfl rfl q991 q993 qs7 q134 q994 (by decide +kernel) rfl rfl ⟨Nat.le_of_ble_eq_true rfl, Nat.le_of_ble_eq_true rfl⟩ rfl (Nat.le_of_ble_eq_true rfl) dX7_deeper_1) hf (fun r1 h c hf => ?_)
  refine sj_aload_n 1 dX7_deeper_4 rfl ?_
  obtain ⟨fs5, he5, hf⟩ := sd_isC_some hf
  refine sj_cI (rest := []) (fun _ _ _ e => sj_runV (n := 1) (As := [.ref a1]) (rest := []) (sX9_is l G r1 a1 h _ _ _ e) he5 rfl rfl rfl rfl q1014 q1015 q1016 q136 q1017 (by decide +kernel) rfl rfl ⟨Nat.le_of_ble_eq_true rfl, Nat.le_of_ble_eq_true rfl⟩ rfl (Nat.le_of_ble_eq_true rfl) dX7_deeper_5) hf (fun r2 h c hf => ?_)
  refine sj_ifeq 20 hf dX7_deeper_8 (by decide) (fun g8 hf => ?_) (fun g8 hf => ?_)
  · refine sj_aload_n 0 dX7_deeper_20 rfl ?_
    obtain ⟨fs21, he21, hf⟩ := sd_isC_some hf
    refine sj_cR (rest := []) (fun _ _ _ e => sj_runV (n := 0) (As := []) (rest := []) (sX7_wrong l hl G a0 h _ _ _ e) he21 rfl rfl rfl rfl q1030 q1032 qs10 q134 q1033 (by decide +kernel) rfl rfl ⟨Nat.le_of_ble_eq_true rfl, Nat.le_of_ble_eq_true rfl⟩ rfl (Nat.le_of_ble_eq_true rfl) dX7_deeper_21) hf (fun r3 h c hf => ?_)
    obtain ⟨ci24, fs24, he24, hf⟩ := sd_own_some hf
    by_cases z24 : ci24 = 9
    · rw [if_pos z24] at hf; subst z24; exact sj_athrow he24 rfl dX7_deeper_24 (sj_outX hf rfl (by intro x hx; cases hx))
    · rw [if_neg z24] at hf; cases hf
  · refine sj_aload_n 0 dX7_deeper_11 rfl ?_
    refine sj_getI fdX7_66_6 hf dX7_deeper_12 (fun v4 hf => ?_)
    refine sj_bipush (v := 8) dX7_deeper_15 (by decide) ?_
    refine sj_icne 25 hf dX7_deeper_17 (by decide) (fun g17 hf => ?_) (fun g17 hf => ?_)
    · refine sj_aload_n 0 dX7_deeper_25 rfl ?_
      refine sj_dup dX7_deeper_26 rfl ?_
      refine sj_getI fdX7_66_6 hf dX7_deeper_27 (fun v5 hf => ?_)
      refine sj_iconst (v := 1) dX7_deeper_30 (by decide) ?_
      refine sj_iadd dX7_deeper_31 ?_
      refine sj_put (fpX7_66_6 _ _) hf dX7_deeper_32 (fun h hf => ?_)
      refine sj_aload_n 0 dX7_deeper_35 rfl ?_
      refine sj_dup dX7_deeper_36 rfl ?_
      refine sj_getI fdX7_29_6 hf dX7_deeper_37 (fun v6 hf => ?_)
      refine sj_iconst (v := 1) dX7_deeper_40 (by decide) ?_
      refine sj_iadd dX7_deeper_41 ?_
      refine sj_put (fpX7_29_6 _ _) hf dX7_deeper_42 (fun h hf => ?_)
      exact sj_vret (o := (sd_ox sd_oV)) hf rfl rfl rfl dX7_deeper_45
    · refine sj_aload_n 0 dX7_deeper_20 rfl ?_
      obtain ⟨fs21, he21, hf⟩ := sd_isC_some hf
      refine sj_cR (rest := []) (fun _ _ _ e => sj_runV (n := 0) (As := []) (rest := []) (sX7_wrong l hl G a0 h _ _ _ e) he21 rfl rfl rfl rfl q1030 q1032 qs10 q134 q1033 (by decide +kernel) rfl rfl ⟨Nat.le_of_ble_eq_true rfl, Nat.le_of_ble_eq_true rfl⟩ rfl (Nat.le_of_ble_eq_true rfl) dX7_deeper_21) hf (fun r7 h c hf => ?_)
      obtain ⟨ci24, fs24, he24, hf⟩ := sd_own_some hf
      by_cases z24 : ci24 = 9
      · rw [if_pos z24] at hf; subst z24; exact sj_athrow he24 rfl dX7_deeper_24 (sj_outX hf rfl (by intro x hx; cases hx))
      · rw [if_neg z24] at hf; cases hf
/-! SofaDig$Reader.close(Ljava/lang/String;)V -/
abbrev cX7_close : ByteArray := prog_18_method_8_code
def yX7_close : MethodName := ⟨RX7, "close", "(Ljava/lang/String;)V"⟩
def dkwX7_close_0 : List UInt8 := [42, 43, 182, 0, 69, 42, 89, 180, 0, 66, 4, 100, 181, 0, 66, 177]
abbrev dktX7_close_0 : List UInt8 := dkwX7_close_0 ++ []
theorem dksX7_close_0 : cX7_close.data.toList.drop 0 = dktX7_close_0 := by decide +kernel
theorem dX7_close_0 : decode cX7_close 0 = .ok (.aload_n 0, 1) := dk_42 (dk_at dksX7_close_0 0 rfl rfl)
theorem dX7_close_1 : decode cX7_close 1 = .ok (.aload_n 1, 1) := dk_43 (dk_at dksX7_close_0 1 rfl rfl)
theorem dX7_close_2 : decode cX7_close 2 = .ok (.invokevirtual 69, 3) := dk_182 0 69 (dk_at dksX7_close_0 2 rfl rfl)
theorem dX7_close_5 : decode cX7_close 5 = .ok (.aload_n 0, 1) := dk_42 (dk_at dksX7_close_0 5 rfl rfl)
theorem dX7_close_6 : decode cX7_close 6 = .ok (.dup, 1) := dk_89 (dk_at dksX7_close_0 6 rfl rfl)
theorem dX7_close_7 : decode cX7_close 7 = .ok (.getfield 66, 3) := dk_180 0 66 (dk_at dksX7_close_0 7 rfl rfl)
theorem dX7_close_10 : decode cX7_close 10 = .ok (.iconst 1, 1) := dk_4 (dk_at dksX7_close_0 10 rfl rfl)
theorem dX7_close_11 : decode cX7_close 11 = .ok (.isub, 1) := dk_100 (dk_at dksX7_close_0 11 rfl rfl)
theorem dX7_close_12 : decode cX7_close 12 = .ok (.putfield 66, 3) := dk_181 0 66 (dk_at dksX7_close_0 12 rfl rfl)
theorem dX7_close_15 : decode cX7_close 15 = .ok (.return_, 1) := dk_177 (dk_at dksX7_close_0 15 rfl rfl)
abbrev mX7_close : sd_Y := (yX7_close, cX7_close, 2, none, none)
def fX7_close (G : sd_G) (a0 : Nat) (a1 : Nat) : sd_M (Unit ⊕ Nat) :=
  sd_bnd (sd_isC G 6 a0) fun _ =>
  sd_bx (fX7_take_2 G a0 a1) (fun e2 =>
    sd_ret (.inr e2)) fun _ =>
  sd_bnd (sd_getI G 6 2 a0) fun v1 =>
  sd_bnd (sd_put 6 2 .int a0 (.int (v1 - 1))) fun _ =>
  sd_ret (.inl ())
set_option maxHeartbeats 4000000 in
theorem sX7_close (l : Launch) (hl : l.stackTraces = false) (G : sd_G) (a0 : Nat) (a1 : Nat) (h : sd_H) (ρ : Unit ⊕ Nat) (cT : Nat × Nat) (h2 : sd_H) (hf : fX7_close G a0 a1 h = some (ρ, cT, h2)) : sd_Met mX7_close ((l, G), (7, 127), [.ref a0, .ref a1], ((sd_ox sd_oV) ρ, h2), cT) h := by
  refine sd_entry (plainFor_of_name rfl) rfl (Nat.le_of_ble_eq_true rfl) ?_
  show sd_J mX7_close ((l, G), (7, 127), [.ref a0, .ref a1], ((sd_ox sd_oV) ρ, h2), cT) 0 [(0, .ref a0), (1, .ref a1)] [] h cT
  unfold fX7_close at hf
  refine sj_aload_n 0 dX7_close_0 rfl ?_
  refine sj_aload_n 1 dX7_close_1 rfl ?_
  obtain ⟨fs2, he2, hf⟩ := sd_isC_some hf
  refine sj_xV (rest := []) (fun _ _ _ e => sj_runV (n := 1) (As := [.ref a1]) (rest := []) (sX7_take_2 l hl G a0 a1 h _ _ _ e) he2 rfl rfl rfl rfl q1085 q1087 qs13 q134 q1088 (by decide +kernel) rfl rfl ⟨Nat.le_of_ble_eq_true rfl, Nat.le_of_ble_eq_true rfl⟩ rfl (Nat.le_of_ble_eq_true rfl) dX7_close_2) hf (fun e2 h c hf => ?_) (fun h c hf => ?_)
  · exact sj_outX hf rfl (by intro x hx; cases hx)
  refine sj_aload_n 0 dX7_close_5 rfl ?_
  refine sj_dup dX7_close_6 rfl ?_
  refine sj_getI fdX7_66_6 hf dX7_close_7 (fun v1 hf => ?_)
  refine sj_iconst (v := 1) dX7_close_10 (by decide) ?_
  refine sj_isub dX7_close_11 ?_
  refine sj_put (fpX7_66_6 _ _) hf dX7_close_12 (fun h hf => ?_)
  exact sj_vret (o := (sd_ox sd_oV)) hf rfl rfl rfl dX7_close_15
