set_option maxRecDepth 100000
theorem q124 : (Jvm.Cond.initialized "java/lang/Math") ∈ lw_all := lw_g (lw_at lw_m1 9 rfl) rfl
theorem q432 : (Jvm.Cond.static ({ cls := "java/lang/Math", name := "min", desc := "(II)I" } : Jvm.MethodName)) ∈ lw_all := lw_g (lw_at lw_m2 77 rfl) rfl
theorem q2775 : (Jvm.Cond.fieldLinkNest "SofaDigModel" (137 : Nat) "SofaDigModel$Plan" "empires" "I" "SofaDigModel") ∈ lw_tbl := lw_at lw_m12 20 rfl
theorem q2777 : (Jvm.Cond.fieldLinkNest "SofaDigModel" (329 : Nat) "SofaDigModel$Plan" "empire" "[J" "SofaDigModel") ∈ lw_tbl := lw_at lw_m12 22 rfl
theorem q2779 : (Jvm.Cond.fieldLinkNest "SofaDigModel" (125 : Nat) "SofaDigModel$Plan" "begin" "[I" "SofaDigModel") ∈ lw_tbl := lw_at lw_m12 24 rfl
theorem q2781 : (Jvm.Cond.fieldLinkNest "SofaDigModel" (140 : Nat) "SofaDigModel$Plan" "end" "[I" "SofaDigModel") ∈ lw_tbl := lw_at lw_m12 26 rfl
theorem q2782 : (Jvm.Cond.fieldLinkNest "SofaDigModel" (65 : Nat) "SofaDigModel$Plan" "finds" "I" "SofaDigModel") ∈ lw_tbl := lw_at lw_m12 27 rfl
theorem q2784 : (Jvm.Cond.fieldLinkNest "SofaDigModel" (119 : Nat) "SofaDigModel$Plan" "isCoin" "[Z" "SofaDigModel") ∈ lw_tbl := lw_at lw_m12 29 rfl
theorem q2786 : (Jvm.Cond.fieldLinkNest "SofaDigModel" (110 : Nat) "SofaDigModel$Plan" "cushion" "[I" "SofaDigModel") ∈ lw_tbl := lw_at lw_m12 31 rfl
theorem q2788 : (Jvm.Cond.fieldLinkNest "SofaDigModel" (122 : Nat) "SofaDigModel$Plan" "what" "[I" "SofaDigModel") ∈ lw_tbl := lw_at lw_m12 33 rfl
theorem q2790 : (Jvm.Cond.fieldLinkNest "SofaDigModel" (100 : Nat) "SofaDigModel$Plan" "find" "[I" "SofaDigModel") ∈ lw_tbl := lw_at lw_m12 35 rfl
theorem q2792 : (Jvm.Cond.fieldLinkNest "SofaDigModel" (85 : Nat) "SofaDigModel$Plan" "spring" "[Z" "SofaDigModel") ∈ lw_tbl := lw_at lw_m12 37 rfl
theorem q2793 : (Jvm.Cond.fieldLinkNest "SofaDigModel" (167 : Nat) "SofaDigModel$Plan" "orders" "I" "SofaDigModel") ∈ lw_tbl := lw_at lw_m12 38 rfl
theorem q2795 : (Jvm.Cond.fieldLinkNest "SofaDigModel" (154 : Nat) "SofaDigModel$Plan" "does" "[I" "SofaDigModel") ∈ lw_tbl := lw_at lw_m12 40 rfl
theorem q2797 : (Jvm.Cond.fieldLinkNest "SofaDigModel" (182 : Nat) "SofaDigModel$Plan" "begins" "[I" "SofaDigModel") ∈ lw_tbl := lw_at lw_m12 42 rfl
theorem q2799 : (Jvm.Cond.fieldLinkNest "SofaDigModel" (185 : Nat) "SofaDigModel$Plan" "ends" "[I" "SofaDigModel") ∈ lw_tbl := lw_at lw_m12 44 rfl
theorem q2862 : (Jvm.Cond.fieldLink "SofaDigModel" (313 : Nat) "SofaDigModel" "ordersRead" "I") ∈ lw_all := lw_g (lw_at lw_m12 107 rfl) rfl
theorem q2863 : (Jvm.Cond.fieldLink "SofaDigModel" (337 : Nat) "SofaDigModel" "isSpring" "Z") ∈ lw_all := lw_g (lw_at lw_m12 108 rfl) rfl
theorem q2864 : (Jvm.Cond.fieldLink "SofaDigModel" (341 : Nat) "SofaDigModel" "itsSeat" "I") ∈ lw_all := lw_g (lw_at lw_m12 109 rfl) rfl
theorem q2927 : (Jvm.Cond.code ({ cls := "SofaDigModel", name := "teach", desc := "()I" } : Jvm.MethodName) prog_46_method_85_code (3 : Nat) (Option.some Jvm.ClassFile.FieldType.int)) ∈ lw_all := lw_g (lw_at lw_m12 172 rfl) rfl
theorem q2928 : (Jvm.Cond.methodLink "SofaDigModel" (398 : Nat) ({ cls := "SofaDigModel", name := "read", desc := "(LSofaDigModel$Plan;)I" } : Jvm.MethodName)) ∈ lw_all := lw_g (lw_at lw_m12 173 rfl) rfl
theorem q2930 : (Jvm.Cond.instanceMethod ({ cls := "SofaDigModel", name := "read", desc := "(LSofaDigModel$Plan;)I" } : Jvm.MethodName)) ∈ lw_all := lw_g (lw_at lw_m12 175 rfl) rfl
theorem q2931 : (Jvm.Cond.code ({ cls := "SofaDigModel", name := "read", desc := "(LSofaDigModel$Plan;)I" } : Jvm.MethodName) prog_46_method_82_code (4 : Nat) (Option.some Jvm.ClassFile.FieldType.int)) ∈ lw_all := lw_g (lw_at lw_m12 176 rfl) rfl
theorem q2932 : (Jvm.Cond.methodLink "SofaDigModel" (383 : Nat) ({ cls := "SofaDigModel", name := "cutIntoTokens", desc := "()V" } : Jvm.MethodName)) ∈ lw_all := lw_g (lw_at lw_m12 177 rfl) rfl
theorem q2934 : (Jvm.Cond.instanceMethod ({ cls := "SofaDigModel", name := "cutIntoTokens", desc := "()V" } : Jvm.MethodName)) ∈ lw_all := lw_g (lw_at lw_m12 179 rfl) rfl
theorem q2973 : (Jvm.Cond.methodLink "SofaDigModel" (386 : Nat) ({ cls := "SofaDigModel", name := "isBook", desc := "(LSofaDigModel$Plan;)Z" } : Jvm.MethodName)) ∈ lw_all := lw_g (lw_at lw_m12 218 rfl) rfl
theorem q2975 : (Jvm.Cond.instanceMethod ({ cls := "SofaDigModel", name := "isBook", desc := "(LSofaDigModel$Plan;)Z" } : Jvm.MethodName)) ∈ lw_all := lw_g (lw_at lw_m12 220 rfl) rfl
theorem q2976 : (Jvm.Cond.code ({ cls := "SofaDigModel", name := "isBook", desc := "(LSofaDigModel$Plan;)Z" } : Jvm.MethodName) prog_46_method_68_code (2 : Nat) (Option.some Jvm.ClassFile.FieldType.boolean)) ∈ lw_all := lw_g (lw_at lw_m12 221 rfl) rfl
theorem q2985 : (Jvm.Cond.methodLink "SofaDigModel" (326 : Nat) ({ cls := "SofaDigModel", name := "isLine", desc := "(LSofaDigModel$Plan;)Z" } : Jvm.MethodName)) ∈ lw_all := lw_g (lw_at lw_m12 230 rfl) rfl
theorem q2987 : (Jvm.Cond.instanceMethod ({ cls := "SofaDigModel", name := "isLine", desc := "(LSofaDigModel$Plan;)Z" } : Jvm.MethodName)) ∈ lw_all := lw_g (lw_at lw_m12 232 rfl) rfl
theorem q2988 : (Jvm.Cond.code ({ cls := "SofaDigModel", name := "isLine", desc := "(LSofaDigModel$Plan;)Z" } : Jvm.MethodName) prog_46_method_67_code (3 : Nat) (Option.some Jvm.ClassFile.FieldType.boolean)) ∈ lw_all := lw_g (lw_at lw_m12 233 rfl) rfl
theorem q2989 : (Jvm.Cond.methodLink "SofaDigModel" (320 : Nat) ({ cls := "SofaDigModel", name := "isOrder", desc := "(LSofaDigModel$Plan;)Z" } : Jvm.MethodName)) ∈ lw_all := lw_g (lw_at lw_m12 234 rfl) rfl
theorem q2991 : (Jvm.Cond.instanceMethod ({ cls := "SofaDigModel", name := "isOrder", desc := "(LSofaDigModel$Plan;)Z" } : Jvm.MethodName)) ∈ lw_all := lw_g (lw_at lw_m12 236 rfl) rfl
theorem q2992 : (Jvm.Cond.code ({ cls := "SofaDigModel", name := "isOrder", desc := "(LSofaDigModel$Plan;)Z" } : Jvm.MethodName) prog_46_method_65_code (3 : Nat) (Option.some Jvm.ClassFile.FieldType.boolean)) ∈ lw_all := lw_g (lw_at lw_m12 237 rfl) rfl
theorem q2993 : (Jvm.Cond.methodLink "SofaDigModel" (179 : Nat) ({ cls := "java/lang/Math", name := "min", desc := "(II)I" } : Jvm.MethodName)) ∈ lw_all := lw_g (lw_at lw_m12 238 rfl) rfl
theorem q2994 : (Jvm.Cond.methodLink "SofaDigModel" (316 : Nat) ({ cls := "SofaDigModel", name := "isPart", desc := "(LSofaDigModel$Plan;IZ)Z" } : Jvm.MethodName)) ∈ lw_all := lw_g (lw_at lw_m12 239 rfl) rfl
theorem q2996 : (Jvm.Cond.instanceMethod ({ cls := "SofaDigModel", name := "isPart", desc := "(LSofaDigModel$Plan;IZ)Z" } : Jvm.MethodName)) ∈ lw_all := lw_g (lw_at lw_m13 1 rfl) rfl
theorem q2997 : (Jvm.Cond.code ({ cls := "SofaDigModel", name := "isPart", desc := "(LSofaDigModel$Plan;IZ)Z" } : Jvm.MethodName) prog_46_method_64_code (4 : Nat) (Option.some Jvm.ClassFile.FieldType.boolean)) ∈ lw_all := lw_g (lw_at lw_m13 2 rfl) rfl
theorem q3050 : (Jvm.Cond.methodLink "SofaDigModel" (323 : Nat) ({ cls := "SofaDigModel", name := "isPlace", desc := "()Z" } : Jvm.MethodName)) ∈ lw_all := lw_g (lw_at lw_m13 55 rfl) rfl
theorem q3052 : (Jvm.Cond.instanceMethod ({ cls := "SofaDigModel", name := "isPlace", desc := "()Z" } : Jvm.MethodName)) ∈ lw_all := lw_g (lw_at lw_m13 57 rfl) rfl
theorem q3053 : (Jvm.Cond.code ({ cls := "SofaDigModel", name := "isPlace", desc := "()Z" } : Jvm.MethodName) prog_46_method_66_code (1 : Nat) (Option.some Jvm.ClassFile.FieldType.boolean)) ∈ lw_all := lw_g (lw_at lw_m13 58 rfl) rfl
theorem q3054 : (Jvm.Cond.methodLink "SofaDigModel" (389 : Nat) ({ cls := "SofaDigModel", name := "errorOf", desc := "(LSofaDigModel$Plan;I)I" } : Jvm.MethodName)) ∈ lw_all := lw_g (lw_at lw_m13 59 rfl) rfl
theorem q3056 : (Jvm.Cond.instanceMethod ({ cls := "SofaDigModel", name := "errorOf", desc := "(LSofaDigModel$Plan;I)I" } : Jvm.MethodName)) ∈ lw_all := lw_g (lw_at lw_m13 61 rfl) rfl
theorem q3057 : (Jvm.Cond.code ({ cls := "SofaDigModel", name := "errorOf", desc := "(LSofaDigModel$Plan;I)I" } : Jvm.MethodName) prog_46_method_80_code (3 : Nat) (Option.some Jvm.ClassFile.FieldType.int)) ∈ lw_all := lw_g (lw_at lw_m13 62 rfl) rfl
theorem q3058 : (Jvm.Cond.methodLink "SofaDigModel" (350 : Nat) ({ cls := "SofaDigModel", name := "itsSeats", desc := "(LSofaDigModel$Plan;J)I" } : Jvm.MethodName)) ∈ lw_all := lw_g (lw_at lw_m13 63 rfl) rfl
theorem q3060 : (Jvm.Cond.instanceMethod ({ cls := "SofaDigModel", name := "itsSeats", desc := "(LSofaDigModel$Plan;J)I" } : Jvm.MethodName)) ∈ lw_all := lw_g (lw_at lw_m13 65 rfl) rfl
theorem q3061 : (Jvm.Cond.code ({ cls := "SofaDigModel", name := "itsSeats", desc := "(LSofaDigModel$Plan;J)I" } : Jvm.MethodName) prog_46_method_78_code (4 : Nat) (Option.some Jvm.ClassFile.FieldType.int)) ∈ lw_all := lw_g (lw_at lw_m13 66 rfl) rfl
theorem q3062 : (Jvm.Cond.constantLong "SofaDigModel" (344 : Nat) (2 : Int64)) ∈ lw_all := lw_g (lw_at lw_m13 67 rfl) rfl
theorem q3063 : (Jvm.Cond.constantLong "SofaDigModel" (346 : Nat) (8 : Int64)) ∈ lw_all := lw_g (lw_at lw_m13 68 rfl) rfl
theorem q3064 : (Jvm.Cond.methodLink "SofaDigModel" (353 : Nat) ({ cls := "SofaDigModel", name := "itsLayers", desc := "(LSofaDigModel$Plan;J)I" } : Jvm.MethodName)) ∈ lw_all := lw_g (lw_at lw_m13 69 rfl) rfl
theorem q3066 : (Jvm.Cond.instanceMethod ({ cls := "SofaDigModel", name := "itsLayers", desc := "(LSofaDigModel$Plan;J)I" } : Jvm.MethodName)) ∈ lw_all := lw_g (lw_at lw_m13 71 rfl) rfl
theorem q3067 : (Jvm.Cond.code ({ cls := "SofaDigModel", name := "itsLayers", desc := "(LSofaDigModel$Plan;J)I" } : Jvm.MethodName) prog_46_method_79_code (4 : Nat) (Option.some Jvm.ClassFile.FieldType.int)) ∈ lw_all := lw_g (lw_at lw_m13 72 rfl) rfl
theorem q3068 : (Jvm.Cond.constantLong "SofaDigModel" (348 : Nat) (10 : Int64)) ∈ lw_all := lw_g (lw_at lw_m13 73 rfl) rfl
theorem q3069 : (Jvm.Cond.methodLink "SofaDigModel" (356 : Nat) ({ cls := "SofaDigModel", name := "newEmpire", desc := "(LSofaDigModel$Plan;J)I" } : Jvm.MethodName)) ∈ lw_all := lw_g (lw_at lw_m13 74 rfl) rfl
theorem q3071 : (Jvm.Cond.instanceMethod ({ cls := "SofaDigModel", name := "newEmpire", desc := "(LSofaDigModel$Plan;J)I" } : Jvm.MethodName)) ∈ lw_all := lw_g (lw_at lw_m13 76 rfl) rfl
theorem q3072 : (Jvm.Cond.code ({ cls := "SofaDigModel", name := "newEmpire", desc := "(LSofaDigModel$Plan;J)I" } : Jvm.MethodName) prog_46_method_70_code (4 : Nat) (Option.some Jvm.ClassFile.FieldType.int)) ∈ lw_all := lw_g (lw_at lw_m13 77 rfl) rfl
theorem q3073 : (Jvm.Cond.methodLink "SofaDigModel" (332 : Nat) ({ cls := "SofaDigModel", name := "find", desc := "(LSofaDigModel$Plan;J)I" } : Jvm.MethodName)) ∈ lw_all := lw_g (lw_at lw_m13 78 rfl) rfl
theorem q3074 : (Jvm.Cond.static ({ cls := "SofaDigModel", name := "find", desc := "(LSofaDigModel$Plan;J)I" } : Jvm.MethodName)) ∈ lw_all := lw_g (lw_at lw_m13 79 rfl) rfl
theorem q3075 : (Jvm.Cond.code ({ cls := "SofaDigModel", name := "find", desc := "(LSofaDigModel$Plan;J)I" } : Jvm.MethodName) prog_46_method_69_code (4 : Nat) (Option.some Jvm.ClassFile.FieldType.int)) ∈ lw_all := lw_g (lw_at lw_m13 80 rfl) rfl
theorem q3076 : (Jvm.Cond.methodLink "SofaDigModel" (359 : Nat) ({ cls := "SofaDigModel", name := "itsYears", desc := "(LSofaDigModel$Plan;JZ)I" } : Jvm.MethodName)) ∈ lw_all := lw_g (lw_at lw_m13 81 rfl) rfl
theorem q3078 : (Jvm.Cond.instanceMethod ({ cls := "SofaDigModel", name := "itsYears", desc := "(LSofaDigModel$Plan;JZ)I" } : Jvm.MethodName)) ∈ lw_all := lw_g (lw_at lw_m13 83 rfl) rfl
theorem q3079 : (Jvm.Cond.code ({ cls := "SofaDigModel", name := "itsYears", desc := "(LSofaDigModel$Plan;JZ)I" } : Jvm.MethodName) prog_46_method_71_code (6 : Nat) (Option.some Jvm.ClassFile.FieldType.int)) ∈ lw_all := lw_g (lw_at lw_m13 84 rfl) rfl
theorem q3080 : (Jvm.Cond.constantLong "SofaDigModel" (335 : Nat) (999 : Int64)) ∈ lw_all := lw_g (lw_at lw_m13 85 rfl) rfl
theorem q3081 : (Jvm.Cond.methodLink "SofaDigModel" (363 : Nat) ({ cls := "SofaDigModel", name := "newFind", desc := "(LSofaDigModel$Plan;Z)I" } : Jvm.MethodName)) ∈ lw_all := lw_g (lw_at lw_m13 86 rfl) rfl
theorem q3083 : (Jvm.Cond.instanceMethod ({ cls := "SofaDigModel", name := "newFind", desc := "(LSofaDigModel$Plan;Z)I" } : Jvm.MethodName)) ∈ lw_all := lw_g (lw_at lw_m13 88 rfl) rfl
theorem q3084 : (Jvm.Cond.code ({ cls := "SofaDigModel", name := "newFind", desc := "(LSofaDigModel$Plan;Z)I" } : Jvm.MethodName) prog_46_method_72_code (3 : Nat) (Option.some Jvm.ClassFile.FieldType.int)) ∈ lw_all := lw_g (lw_at lw_m13 89 rfl) rfl
theorem q3085 : (Jvm.Cond.methodLink "SofaDigModel" (367 : Nat) ({ cls := "SofaDigModel", name := "itsSeat", desc := "(LSofaDigModel$Plan;I)I" } : Jvm.MethodName)) ∈ lw_all := lw_g (lw_at lw_m13 90 rfl) rfl
theorem q3087 : (Jvm.Cond.instanceMethod ({ cls := "SofaDigModel", name := "itsSeat", desc := "(LSofaDigModel$Plan;I)I" } : Jvm.MethodName)) ∈ lw_all := lw_g (lw_at lw_m13 92 rfl) rfl
theorem q3088 : (Jvm.Cond.code ({ cls := "SofaDigModel", name := "itsSeat", desc := "(LSofaDigModel$Plan;I)I" } : Jvm.MethodName) prog_46_method_73_code (3 : Nat) (Option.some Jvm.ClassFile.FieldType.int)) ∈ lw_all := lw_g (lw_at lw_m13 93 rfl) rfl
theorem q3089 : (Jvm.Cond.methodLink "SofaDigModel" (370 : Nat) ({ cls := "SofaDigModel", name := "itsStratum", desc := "(LSofaDigModel$Plan;J)I" } : Jvm.MethodName)) ∈ lw_all := lw_g (lw_at lw_m13 94 rfl) rfl
theorem q3091 : (Jvm.Cond.instanceMethod ({ cls := "SofaDigModel", name := "itsStratum", desc := "(LSofaDigModel$Plan;J)I" } : Jvm.MethodName)) ∈ lw_all := lw_g (lw_at lw_m13 96 rfl) rfl
theorem q3092 : (Jvm.Cond.code ({ cls := "SofaDigModel", name := "itsStratum", desc := "(LSofaDigModel$Plan;J)I" } : Jvm.MethodName) prog_46_method_74_code (5 : Nat) (Option.some Jvm.ClassFile.FieldType.int)) ∈ lw_all := lw_g (lw_at lw_m13 97 rfl) rfl
theorem q3093 : (Jvm.Cond.methodLink "SofaDigModel" (373 : Nat) ({ cls := "SofaDigModel", name := "itsYear", desc := "(LSofaDigModel$Plan;J)I" } : Jvm.MethodName)) ∈ lw_all := lw_g (lw_at lw_m13 98 rfl) rfl
theorem q3095 : (Jvm.Cond.instanceMethod ({ cls := "SofaDigModel", name := "itsYear", desc := "(LSofaDigModel$Plan;J)I" } : Jvm.MethodName)) ∈ lw_all := lw_g (lw_at lw_m13 100 rfl) rfl
theorem q3096 : (Jvm.Cond.code ({ cls := "SofaDigModel", name := "itsYear", desc := "(LSofaDigModel$Plan;J)I" } : Jvm.MethodName) prog_46_method_75_code (4 : Nat) (Option.some Jvm.ClassFile.FieldType.int)) ∈ lw_all := lw_g (lw_at lw_m13 101 rfl) rfl
theorem q3097 : (Jvm.Cond.methodLink "SofaDigModel" (376 : Nat) ({ cls := "SofaDigModel", name := "newOrder", desc := "(LSofaDigModel$Plan;)I" } : Jvm.MethodName)) ∈ lw_all := lw_g (lw_at lw_m13 102 rfl) rfl
theorem q3099 : (Jvm.Cond.instanceMethod ({ cls := "SofaDigModel", name := "newOrder", desc := "(LSofaDigModel$Plan;)I" } : Jvm.MethodName)) ∈ lw_all := lw_g (lw_at lw_m13 104 rfl) rfl
theorem q3100 : (Jvm.Cond.code ({ cls := "SofaDigModel", name := "newOrder", desc := "(LSofaDigModel$Plan;)I" } : Jvm.MethodName) prog_46_method_77_code (2 : Nat) (Option.some Jvm.ClassFile.FieldType.int)) ∈ lw_all := lw_g (lw_at lw_m13 105 rfl) rfl
theorem q3101 : (Jvm.Cond.methodLink "SofaDigModel" (380 : Nat) ({ cls := "SofaDigModel", name := "anEmpire", desc := "(LSofaDigModel$Plan;I)I" } : Jvm.MethodName)) ∈ lw_all := lw_g (lw_at lw_m13 106 rfl) rfl
theorem q3103 : (Jvm.Cond.instanceMethod ({ cls := "SofaDigModel", name := "anEmpire", desc := "(LSofaDigModel$Plan;I)I" } : Jvm.MethodName)) ∈ lw_all := lw_g (lw_at lw_m13 108 rfl) rfl
theorem q3104 : (Jvm.Cond.code ({ cls := "SofaDigModel", name := "anEmpire", desc := "(LSofaDigModel$Plan;I)I" } : Jvm.MethodName) prog_46_method_76_code (3 : Nat) (Option.some Jvm.ClassFile.FieldType.int)) ∈ lw_all := lw_g (lw_at lw_m13 109 rfl) rfl
theorem q3105 : (Jvm.Cond.methodLink "SofaDigModel" (392 : Nat) ({ cls := "SofaDigModel", name := "settle", desc := "(LSofaDigModel$Plan;)V" } : Jvm.MethodName)) ∈ lw_all := lw_g (lw_at lw_m13 110 rfl) rfl
theorem q3107 : (Jvm.Cond.instanceMethod ({ cls := "SofaDigModel", name := "settle", desc := "(LSofaDigModel$Plan;)V" } : Jvm.MethodName)) ∈ lw_all := lw_g (lw_at lw_m13 112 rfl) rfl
theorem q3108 : (Jvm.Cond.code ({ cls := "SofaDigModel", name := "settle", desc := "(LSofaDigModel$Plan;)V" } : Jvm.MethodName) prog_46_method_81_code (4 : Nat) (Option.none : Option Jvm.ClassFile.FieldType)) ∈ lw_all := lw_g (lw_at lw_m13 113 rfl) rfl
/-! SofaDigModel.isPart(LSofaDigModel$Plan;IZ)Z -/
abbrev cX5_isPart : ByteArray := prog_46_method_64_code
def yX5_isPart : MethodName := ⟨RX5, "isPart", "(LSofaDigModel$Plan;IZ)Z"⟩
def dkwX5_isPart_2 : List UInt8 := [172]
abbrev dktX5_isPart_2 : List UInt8 := dkwX5_isPart_2 ++ []
def dkwX5_isPart_1 : List UInt8 := [167, 0, 11, 42, 43, 182, 1, 22, 154, 0, 5, 3, 172, 43, 180, 0, 185, 28, 43, 180, 1, 9, 79, 4]
abbrev dktX5_isPart_1 : List UInt8 := dkwX5_isPart_1 ++ dktX5_isPart_2
def dkwX5_isPart_0 : List UInt8 := [43, 180, 0, 182, 28, 43, 180, 1, 9, 79, 29, 153, 0, 14, 42, 43, 182, 1, 35, 154, 0, 16]
abbrev dktX5_isPart_0 : List UInt8 := dkwX5_isPart_0 ++ dktX5_isPart_1
theorem dksX5_isPart_0 : cX5_isPart.data.toList.drop 0 = dktX5_isPart_0 := by decide +kernel
theorem dksX5_isPart_1 : cX5_isPart.data.toList.drop 22 = dktX5_isPart_1 := dk_seg dksX5_isPart_0 22 rfl rfl
theorem dksX5_isPart_2 : cX5_isPart.data.toList.drop 46 = dktX5_isPart_2 := dk_seg dksX5_isPart_1 24 rfl rfl
theorem dX5_isPart_0 : decode cX5_isPart 0 = .ok (.aload_n 1, 1) := dk_43 (dk_at dksX5_isPart_0 0 rfl rfl)
theorem dX5_isPart_1 : decode cX5_isPart 1 = .ok (.getfield 182, 3) := dk_180 0 182 (dk_at dksX5_isPart_0 1 rfl rfl)
theorem dX5_isPart_4 : decode cX5_isPart 4 = .ok (.iload_n 2, 1) := dk_28 (dk_at dksX5_isPart_0 4 rfl rfl)
theorem dX5_isPart_5 : decode cX5_isPart 5 = .ok (.aload_n 1, 1) := dk_43 (dk_at dksX5_isPart_0 5 rfl rfl)
theorem dX5_isPart_6 : decode cX5_isPart 6 = .ok (.getfield 265, 3) := dk_180 1 9 (dk_at dksX5_isPart_0 6 rfl rfl)
theorem dX5_isPart_9 : decode cX5_isPart 9 = .ok (.iastore, 1) := dk_79 (dk_at dksX5_isPart_0 9 rfl rfl)
theorem dX5_isPart_10 : decode cX5_isPart 10 = .ok (.iload_n 3, 1) := dk_29 (dk_at dksX5_isPart_0 10 rfl rfl)
theorem dX5_isPart_11 : decode cX5_isPart 11 = .ok (.ifCond .eq 14, 3) := dk_153 0 14 (dk_at dksX5_isPart_0 11 rfl rfl)
theorem dX5_isPart_14 : decode cX5_isPart 14 = .ok (.aload_n 0, 1) := dk_42 (dk_at dksX5_isPart_0 14 rfl rfl)
theorem dX5_isPart_15 : decode cX5_isPart 15 = .ok (.aload_n 1, 1) := dk_43 (dk_at dksX5_isPart_0 15 rfl rfl)
theorem dX5_isPart_16 : decode cX5_isPart 16 = .ok (.invokevirtual 291, 3) := dk_182 1 35 (dk_at dksX5_isPart_0 16 rfl rfl)
theorem dX5_isPart_19 : decode cX5_isPart 19 = .ok (.ifCond .ne 16, 3) := dk_154 0 16 (dk_at dksX5_isPart_0 19 rfl rfl)
theorem dX5_isPart_22 : decode cX5_isPart 22 = .ok (.goto 11, 3) := dk_167 0 11 (dk_at dksX5_isPart_1 0 rfl rfl)
theorem dX5_isPart_25 : decode cX5_isPart 25 = .ok (.aload_n 0, 1) := dk_42 (dk_at dksX5_isPart_1 3 rfl rfl)
theorem dX5_isPart_26 : decode cX5_isPart 26 = .ok (.aload_n 1, 1) := dk_43 (dk_at dksX5_isPart_1 4 rfl rfl)
theorem dX5_isPart_27 : decode cX5_isPart 27 = .ok (.invokevirtual 278, 3) := dk_182 1 22 (dk_at dksX5_isPart_1 5 rfl rfl)
theorem dX5_isPart_30 : decode cX5_isPart 30 = .ok (.ifCond .ne 5, 3) := dk_154 0 5 (dk_at dksX5_isPart_1 8 rfl rfl)
theorem dX5_isPart_33 : decode cX5_isPart 33 = .ok (.iconst 0, 1) := dk_3 (dk_at dksX5_isPart_1 11 rfl rfl)
theorem dX5_isPart_34 : decode cX5_isPart 34 = .ok (.ireturn, 1) := dk_172 (dk_at dksX5_isPart_1 12 rfl rfl)
theorem dX5_isPart_35 : decode cX5_isPart 35 = .ok (.aload_n 1, 1) := dk_43 (dk_at dksX5_isPart_1 13 rfl rfl)
theorem dX5_isPart_36 : decode cX5_isPart 36 = .ok (.getfield 185, 3) := dk_180 0 185 (dk_at dksX5_isPart_1 14 rfl rfl)
theorem dX5_isPart_39 : decode cX5_isPart 39 = .ok (.iload_n 2, 1) := dk_28 (dk_at dksX5_isPart_1 17 rfl rfl)
theorem dX5_isPart_40 : decode cX5_isPart 40 = .ok (.aload_n 1, 1) := dk_43 (dk_at dksX5_isPart_1 18 rfl rfl)
theorem dX5_isPart_41 : decode cX5_isPart 41 = .ok (.getfield 265, 3) := dk_180 1 9 (dk_at dksX5_isPart_1 19 rfl rfl)
theorem dX5_isPart_44 : decode cX5_isPart 44 = .ok (.iastore, 1) := dk_79 (dk_at dksX5_isPart_1 22 rfl rfl)
theorem dX5_isPart_45 : decode cX5_isPart 45 = .ok (.iconst 1, 1) := dk_4 (dk_at dksX5_isPart_1 23 rfl rfl)
theorem dX5_isPart_46 : decode cX5_isPart 46 = .ok (.ireturn, 1) := dk_172 (dk_at dksX5_isPart_2 0 rfl rfl)
theorem fdX5_182_5 : sd_Fd "SofaDigModel" 182 5 14 := ⟨(RX6, TX6, 19), "SofaDigModel$Plan", rfl, by decide, rfl, in_X6, Or.inl rfl, Or.inr ⟨_, q2797⟩⟩
theorem fdX5_185_5 : sd_Fd "SofaDigModel" 185 5 15 := ⟨(RX6, TX6, 19), "SofaDigModel$Plan", rfl, by decide, rfl, in_X6, Or.inl rfl, Or.inr ⟨_, q2799⟩⟩
abbrev mX5_isPart : sd_Y := (yX5_isPart, cX5_isPart, 4, some (.boolean), none)
def fX5_isPart (G : sd_G) (a0 : Nat) (a1 : Nat) (a2 : Int32) (a3 : Int32) : sd_M Int32 :=
  sd_bnd (sd_getR G 5 14 a1) fun v1 =>
  sd_bnd (sd_getI G 5 18 a1) fun v2 =>
  sd_bnd (sd_astI 0 v1 a2 v2) fun _ =>
  if a3 = 0 then (
    sd_bnd (sd_isC G 4 a0) fun _ =>
    sd_bnd ((pMP G 100).2.2.2.2.1 a0 a1) fun r3 =>
    if r3 = 0 then (
      sd_ret 0)
    else (
      sd_bnd (sd_getR G 5 15 a1) fun v4 =>
      sd_bnd (sd_getI G 5 18 a1) fun v5 =>
      sd_bnd (sd_astI 0 v4 a2 v5) fun _ =>
      sd_ret 1))
  else (
    sd_bnd (sd_isC G 4 a0) fun _ =>
    sd_bnd ((pMP G 100).1 a0 a1) fun r6 =>
    if r6 = 0 then (
      sd_ret 0)
    else (
      sd_bnd (sd_getR G 5 15 a1) fun v7 =>
      sd_bnd (sd_getI G 5 18 a1) fun v8 =>
      sd_bnd (sd_astI 0 v7 a2 v8) fun _ =>
      sd_ret 1))
set_option maxHeartbeats 4000000 in
theorem sX5_isPart (l : Launch) (G : sd_G) (a0 : Nat) (a1 : Nat) (a2 : Int32) (a3 : Int32) (h : sd_H) (ρ : Int32) (cT : Nat × Nat) (h2 : sd_H) (hf : fX5_isPart G a0 a1 a2 a3 h = some (ρ, cT, h2)) : sd_Met mX5_isPart ((l, G), (109, 4822), [.ref a0, .ref a1, .int a2, .int a3], (sd_oI ρ, h2), cT) h := by
  refine sd_entry (plainFor_of_name rfl) rfl (Nat.le_of_ble_eq_true rfl) ?_
  show sd_J mX5_isPart ((l, G), (109, 4822), [.ref a0, .ref a1, .int a2, .int a3], (sd_oI ρ, h2), cT) 0 [(0, .ref a0), (1, .ref a1), (2, .int a2), (3, .int a3)] [] h cT
  unfold fX5_isPart at hf
  refine sj_aload_n 1 dX5_isPart_0 rfl ?_
  refine sj_getR fdX5_182_5 hf dX5_isPart_1 (fun v1 hf => ?_)
  refine sj_iload_n 2 dX5_isPart_4 rfl ?_
  refine sj_aload_n 1 dX5_isPart_5 rfl ?_
  refine sj_getI fdX5_265_5 hf dX5_isPart_6 (fun v2 hf => ?_)
  refine sj_iast hf dX5_isPart_9 (fun h hf => ?_)
  refine sj_iload_n 3 dX5_isPart_10 rfl ?_
  refine sj_ifeq 25 hf dX5_isPart_11 (by decide) (fun g11 hf => ?_) (fun g11 hf => ?_)
  · refine sj_aload_n 0 dX5_isPart_25 rfl ?_
    refine sj_aload_n 1 dX5_isPart_26 rfl ?_
    obtain ⟨fs27, he27, hf⟩ := sd_isC_some hf
    refine sj_cI (rest := []) (fun _ _ _ e => sj_runV (n := 1) (As := [.ref a1]) (rest := []) ((spMP l G 100).2.2.2.2.1 a0 a1 h _ _ _ e) he27 rfl rfl rfl rfl q3030 q3032 qs64 q127 q3033 (by decide +kernel) rfl rfl ⟨Nat.le_of_ble_eq_true rfl, Nat.le_of_ble_eq_true rfl⟩ rfl (Nat.le_of_ble_eq_true rfl) dX5_isPart_27) hf (fun r3 h c hf => ?_)
    refine sj_ifne 35 hf dX5_isPart_30 (by decide) (fun g30 hf => ?_) (fun g30 hf => ?_)
    · refine sj_aload_n 1 dX5_isPart_35 rfl ?_
      refine sj_getR fdX5_185_5 hf dX5_isPart_36 (fun v4 hf => ?_)
      refine sj_iload_n 2 dX5_isPart_39 rfl ?_
      refine sj_aload_n 1 dX5_isPart_40 rfl ?_
      refine sj_getI fdX5_265_5 hf dX5_isPart_41 (fun v5 hf => ?_)
      refine sj_iast hf dX5_isPart_44 (fun h hf => ?_)
      refine sj_iconst (v := 1) dX5_isPart_45 (by decide) ?_
      exact sj_zretC (o := sd_oI) (ty := .boolean) rfl hf rfl rfl rfl dX5_isPart_46
    · refine sj_iconst (v := 0) dX5_isPart_33 (by decide) ?_
      exact sj_zretC (o := sd_oI) (ty := .boolean) rfl hf rfl rfl rfl dX5_isPart_34
  · refine sj_aload_n 0 dX5_isPart_14 rfl ?_
    refine sj_aload_n 1 dX5_isPart_15 rfl ?_
    obtain ⟨fs16, he16, hf⟩ := sd_isC_some hf
    refine sj_cI (rest := []) (fun _ _ _ e => sj_runV (n := 1) (As := [.ref a1]) (rest := []) ((spMP l G 100).1 a0 a1 h _ _ _ e) he16 rfl rfl rfl rfl q2998 q3000 qs56 q127 q3001 (by decide +kernel) rfl rfl ⟨Nat.le_of_ble_eq_true rfl, Nat.le_of_ble_eq_true rfl⟩ rfl (Nat.le_of_ble_eq_true rfl) dX5_isPart_16) hf (fun r6 h c hf => ?_)
    refine sj_ifne 35 hf dX5_isPart_19 (by decide) (fun g19 hf => ?_) (fun g19 hf => ?_)
    · refine sj_aload_n 1 dX5_isPart_35 rfl ?_
      refine sj_getR fdX5_185_5 hf dX5_isPart_36 (fun v7 hf => ?_)
      refine sj_iload_n 2 dX5_isPart_39 rfl ?_
      refine sj_aload_n 1 dX5_isPart_40 rfl ?_
      refine sj_getI fdX5_265_5 hf dX5_isPart_41 (fun v8 hf => ?_)
      refine sj_iast hf dX5_isPart_44 (fun h hf => ?_)
      refine sj_iconst (v := 1) dX5_isPart_45 (by decide) ?_
      exact sj_zretC (o := sd_oI) (ty := .boolean) rfl hf rfl rfl rfl dX5_isPart_46
    · refine sj_goto 33 dX5_isPart_22 (by decide) ?_
      refine sj_iconst (v := 0) dX5_isPart_33 (by decide) ?_
      exact sj_zretC (o := sd_oI) (ty := .boolean) rfl hf rfl rfl rfl dX5_isPart_34
/-! SofaDigModel.isOrder(LSofaDigModel$Plan;)Z -/
abbrev cX5_isOrder : ByteArray := prog_46_method_65_code
def yX5_isOrder : MethodName := ⟨RX5, "isOrder", "(LSofaDigModel$Plan;)Z"⟩
def dkwX5_isOrder_5 : List UInt8 := [153, 0, 7, 4, 167, 0, 4, 3, 172]
abbrev dktX5_isOrder_5 : List UInt8 := dkwX5_isOrder_5 ++ []
def dkwX5_isOrder_4 : List UInt8 := [180, 1, 9, 79, 42, 16, 14, 182, 1, 3, 153, 0, 17, 42, 43, 5, 28, 104, 4, 96, 4, 182, 1, 60]
abbrev dktX5_isOrder_4 : List UInt8 := dkwX5_isOrder_4 ++ dktX5_isOrder_5
def dkwX5_isOrder_3 : List UInt8 := [180, 0, 182, 5, 28, 104, 4, 96, 43, 180, 1, 9, 79, 43, 180, 0, 185, 5, 28, 104, 4, 96, 43]
abbrev dktX5_isOrder_3 : List UInt8 := dkwX5_isOrder_3 ++ dktX5_isOrder_4
def dkwX5_isOrder_2 : List UInt8 := [180, 1, 0, 4, 96, 181, 1, 0, 42, 43, 5, 28, 104, 3, 182, 1, 60, 154, 0, 5, 3, 172, 43]
abbrev dktX5_isOrder_2 : List UInt8 := dkwX5_isOrder_2 ++ dktX5_isOrder_3
def dkwX5_isOrder_1 : List UInt8 := [28, 42, 180, 0, 24, 42, 180, 1, 0, 46, 79, 42, 180, 0, 30, 42, 180, 1, 0, 16, 11, 79, 42, 89]
abbrev dktX5_isOrder_1 : List UInt8 := dkwX5_isOrder_1 ++ dktX5_isOrder_2
def dkwX5_isOrder_0 : List UInt8 := [16, 15, 42, 180, 1, 57, 184, 0, 179, 61, 42, 89, 180, 1, 57, 4, 96, 181, 1, 57, 43, 180, 0, 154]
abbrev dktX5_isOrder_0 : List UInt8 := dkwX5_isOrder_0 ++ dktX5_isOrder_1
theorem dksX5_isOrder_0 : cX5_isOrder.data.toList.drop 0 = dktX5_isOrder_0 := by decide +kernel
theorem dksX5_isOrder_1 : cX5_isOrder.data.toList.drop 24 = dktX5_isOrder_1 := dk_seg dksX5_isOrder_0 24 rfl rfl
theorem dksX5_isOrder_2 : cX5_isOrder.data.toList.drop 48 = dktX5_isOrder_2 := dk_seg dksX5_isOrder_1 24 rfl rfl
theorem dksX5_isOrder_3 : cX5_isOrder.data.toList.drop 71 = dktX5_isOrder_3 := dk_seg dksX5_isOrder_2 23 rfl rfl
theorem dksX5_isOrder_4 : cX5_isOrder.data.toList.drop 94 = dktX5_isOrder_4 := dk_seg dksX5_isOrder_3 23 rfl rfl
theorem dksX5_isOrder_5 : cX5_isOrder.data.toList.drop 118 = dktX5_isOrder_5 := dk_seg dksX5_isOrder_4 24 rfl rfl
theorem dX5_isOrder_0 : decode cX5_isOrder 0 = .ok (.bipush 15, 2) := dk_16 15 (dk_at dksX5_isOrder_0 0 rfl rfl)
theorem dX5_isOrder_2 : decode cX5_isOrder 2 = .ok (.aload_n 0, 1) := dk_42 (dk_at dksX5_isOrder_0 2 rfl rfl)
theorem dX5_isOrder_3 : decode cX5_isOrder 3 = .ok (.getfield 313, 3) := dk_180 1 57 (dk_at dksX5_isOrder_0 3 rfl rfl)
theorem dX5_isOrder_6 : decode cX5_isOrder 6 = .ok (.invokestatic 179, 3) := dk_184 0 179 (dk_at dksX5_isOrder_0 6 rfl rfl)
theorem dX5_isOrder_9 : decode cX5_isOrder 9 = .ok (.istore_n 2, 1) := dk_61 (dk_at dksX5_isOrder_0 9 rfl rfl)
theorem dX5_isOrder_10 : decode cX5_isOrder 10 = .ok (.aload_n 0, 1) := dk_42 (dk_at dksX5_isOrder_0 10 rfl rfl)
theorem dX5_isOrder_11 : decode cX5_isOrder 11 = .ok (.dup, 1) := dk_89 (dk_at dksX5_isOrder_0 11 rfl rfl)
theorem dX5_isOrder_12 : decode cX5_isOrder 12 = .ok (.getfield 313, 3) := dk_180 1 57 (dk_at dksX5_isOrder_0 12 rfl rfl)
theorem dX5_isOrder_15 : decode cX5_isOrder 15 = .ok (.iconst 1, 1) := dk_4 (dk_at dksX5_isOrder_0 15 rfl rfl)
theorem dX5_isOrder_16 : decode cX5_isOrder 16 = .ok (.iadd, 1) := dk_96 (dk_at dksX5_isOrder_0 16 rfl rfl)
theorem dX5_isOrder_17 : decode cX5_isOrder 17 = .ok (.putfield 313, 3) := dk_181 1 57 (dk_at dksX5_isOrder_0 17 rfl rfl)
theorem dX5_isOrder_20 : decode cX5_isOrder 20 = .ok (.aload_n 1, 1) := dk_43 (dk_at dksX5_isOrder_0 20 rfl rfl)
theorem dX5_isOrder_21 : decode cX5_isOrder 21 = .ok (.getfield 154, 3) := dk_180 0 154 (dk_at dksX5_isOrder_0 21 rfl rfl)
theorem dX5_isOrder_24 : decode cX5_isOrder 24 = .ok (.iload_n 2, 1) := dk_28 (dk_at dksX5_isOrder_1 0 rfl rfl)
theorem dX5_isOrder_25 : decode cX5_isOrder 25 = .ok (.aload_n 0, 1) := dk_42 (dk_at dksX5_isOrder_1 1 rfl rfl)
theorem dX5_isOrder_26 : decode cX5_isOrder 26 = .ok (.getfield 24, 3) := dk_180 0 24 (dk_at dksX5_isOrder_1 2 rfl rfl)
theorem dX5_isOrder_29 : decode cX5_isOrder 29 = .ok (.aload_n 0, 1) := dk_42 (dk_at dksX5_isOrder_1 5 rfl rfl)
theorem dX5_isOrder_30 : decode cX5_isOrder 30 = .ok (.getfield 256, 3) := dk_180 1 0 (dk_at dksX5_isOrder_1 6 rfl rfl)
theorem dX5_isOrder_33 : decode cX5_isOrder 33 = .ok (.iaload, 1) := dk_46 (dk_at dksX5_isOrder_1 9 rfl rfl)
theorem dX5_isOrder_34 : decode cX5_isOrder 34 = .ok (.iastore, 1) := dk_79 (dk_at dksX5_isOrder_1 10 rfl rfl)
theorem dX5_isOrder_35 : decode cX5_isOrder 35 = .ok (.aload_n 0, 1) := dk_42 (dk_at dksX5_isOrder_1 11 rfl rfl)
theorem dX5_isOrder_36 : decode cX5_isOrder 36 = .ok (.getfield 30, 3) := dk_180 0 30 (dk_at dksX5_isOrder_1 12 rfl rfl)
theorem dX5_isOrder_39 : decode cX5_isOrder 39 = .ok (.aload_n 0, 1) := dk_42 (dk_at dksX5_isOrder_1 15 rfl rfl)
theorem dX5_isOrder_40 : decode cX5_isOrder 40 = .ok (.getfield 256, 3) := dk_180 1 0 (dk_at dksX5_isOrder_1 16 rfl rfl)
theorem dX5_isOrder_43 : decode cX5_isOrder 43 = .ok (.bipush 11, 2) := dk_16 11 (dk_at dksX5_isOrder_1 19 rfl rfl)
theorem dX5_isOrder_45 : decode cX5_isOrder 45 = .ok (.iastore, 1) := dk_79 (dk_at dksX5_isOrder_1 21 rfl rfl)
theorem dX5_isOrder_46 : decode cX5_isOrder 46 = .ok (.aload_n 0, 1) := dk_42 (dk_at dksX5_isOrder_1 22 rfl rfl)
theorem dX5_isOrder_47 : decode cX5_isOrder 47 = .ok (.dup, 1) := dk_89 (dk_at dksX5_isOrder_1 23 rfl rfl)
theorem dX5_isOrder_48 : decode cX5_isOrder 48 = .ok (.getfield 256, 3) := dk_180 1 0 (dk_at dksX5_isOrder_2 0 rfl rfl)
theorem dX5_isOrder_51 : decode cX5_isOrder 51 = .ok (.iconst 1, 1) := dk_4 (dk_at dksX5_isOrder_2 3 rfl rfl)
theorem dX5_isOrder_52 : decode cX5_isOrder 52 = .ok (.iadd, 1) := dk_96 (dk_at dksX5_isOrder_2 4 rfl rfl)
theorem dX5_isOrder_53 : decode cX5_isOrder 53 = .ok (.putfield 256, 3) := dk_181 1 0 (dk_at dksX5_isOrder_2 5 rfl rfl)
theorem dX5_isOrder_56 : decode cX5_isOrder 56 = .ok (.aload_n 0, 1) := dk_42 (dk_at dksX5_isOrder_2 8 rfl rfl)
theorem dX5_isOrder_57 : decode cX5_isOrder 57 = .ok (.aload_n 1, 1) := dk_43 (dk_at dksX5_isOrder_2 9 rfl rfl)
theorem dX5_isOrder_58 : decode cX5_isOrder 58 = .ok (.iconst 2, 1) := dk_5 (dk_at dksX5_isOrder_2 10 rfl rfl)
theorem dX5_isOrder_59 : decode cX5_isOrder 59 = .ok (.iload_n 2, 1) := dk_28 (dk_at dksX5_isOrder_2 11 rfl rfl)
theorem dX5_isOrder_60 : decode cX5_isOrder 60 = .ok (.imul, 1) := dk_104 (dk_at dksX5_isOrder_2 12 rfl rfl)
theorem dX5_isOrder_61 : decode cX5_isOrder 61 = .ok (.iconst 0, 1) := dk_3 (dk_at dksX5_isOrder_2 13 rfl rfl)
theorem dX5_isOrder_62 : decode cX5_isOrder 62 = .ok (.invokevirtual 316, 3) := dk_182 1 60 (dk_at dksX5_isOrder_2 14 rfl rfl)
theorem dX5_isOrder_65 : decode cX5_isOrder 65 = .ok (.ifCond .ne 5, 3) := dk_154 0 5 (dk_at dksX5_isOrder_2 17 rfl rfl)
theorem dX5_isOrder_68 : decode cX5_isOrder 68 = .ok (.iconst 0, 1) := dk_3 (dk_at dksX5_isOrder_2 20 rfl rfl)
theorem dX5_isOrder_69 : decode cX5_isOrder 69 = .ok (.ireturn, 1) := dk_172 (dk_at dksX5_isOrder_2 21 rfl rfl)
theorem dX5_isOrder_70 : decode cX5_isOrder 70 = .ok (.aload_n 1, 1) := dk_43 (dk_at dksX5_isOrder_2 22 rfl rfl)
theorem dX5_isOrder_71 : decode cX5_isOrder 71 = .ok (.getfield 182, 3) := dk_180 0 182 (dk_at dksX5_isOrder_3 0 rfl rfl)
theorem dX5_isOrder_74 : decode cX5_isOrder 74 = .ok (.iconst 2, 1) := dk_5 (dk_at dksX5_isOrder_3 3 rfl rfl)
theorem dX5_isOrder_75 : decode cX5_isOrder 75 = .ok (.iload_n 2, 1) := dk_28 (dk_at dksX5_isOrder_3 4 rfl rfl)
theorem dX5_isOrder_76 : decode cX5_isOrder 76 = .ok (.imul, 1) := dk_104 (dk_at dksX5_isOrder_3 5 rfl rfl)
theorem dX5_isOrder_77 : decode cX5_isOrder 77 = .ok (.iconst 1, 1) := dk_4 (dk_at dksX5_isOrder_3 6 rfl rfl)
theorem dX5_isOrder_78 : decode cX5_isOrder 78 = .ok (.iadd, 1) := dk_96 (dk_at dksX5_isOrder_3 7 rfl rfl)
theorem dX5_isOrder_79 : decode cX5_isOrder 79 = .ok (.aload_n 1, 1) := dk_43 (dk_at dksX5_isOrder_3 8 rfl rfl)
theorem dX5_isOrder_80 : decode cX5_isOrder 80 = .ok (.getfield 265, 3) := dk_180 1 9 (dk_at dksX5_isOrder_3 9 rfl rfl)
theorem dX5_isOrder_83 : decode cX5_isOrder 83 = .ok (.iastore, 1) := dk_79 (dk_at dksX5_isOrder_3 12 rfl rfl)
theorem dX5_isOrder_84 : decode cX5_isOrder 84 = .ok (.aload_n 1, 1) := dk_43 (dk_at dksX5_isOrder_3 13 rfl rfl)
theorem dX5_isOrder_85 : decode cX5_isOrder 85 = .ok (.getfield 185, 3) := dk_180 0 185 (dk_at dksX5_isOrder_3 14 rfl rfl)
theorem dX5_isOrder_88 : decode cX5_isOrder 88 = .ok (.iconst 2, 1) := dk_5 (dk_at dksX5_isOrder_3 17 rfl rfl)
theorem dX5_isOrder_89 : decode cX5_isOrder 89 = .ok (.iload_n 2, 1) := dk_28 (dk_at dksX5_isOrder_3 18 rfl rfl)
theorem dX5_isOrder_90 : decode cX5_isOrder 90 = .ok (.imul, 1) := dk_104 (dk_at dksX5_isOrder_3 19 rfl rfl)
theorem dX5_isOrder_91 : decode cX5_isOrder 91 = .ok (.iconst 1, 1) := dk_4 (dk_at dksX5_isOrder_3 20 rfl rfl)
theorem dX5_isOrder_92 : decode cX5_isOrder 92 = .ok (.iadd, 1) := dk_96 (dk_at dksX5_isOrder_3 21 rfl rfl)
theorem dX5_isOrder_93 : decode cX5_isOrder 93 = .ok (.aload_n 1, 1) := dk_43 (dk_at dksX5_isOrder_3 22 rfl rfl)
theorem dX5_isOrder_94 : decode cX5_isOrder 94 = .ok (.getfield 265, 3) := dk_180 1 9 (dk_at dksX5_isOrder_4 0 rfl rfl)
theorem dX5_isOrder_97 : decode cX5_isOrder 97 = .ok (.iastore, 1) := dk_79 (dk_at dksX5_isOrder_4 3 rfl rfl)
theorem dX5_isOrder_98 : decode cX5_isOrder 98 = .ok (.aload_n 0, 1) := dk_42 (dk_at dksX5_isOrder_4 4 rfl rfl)
theorem dX5_isOrder_99 : decode cX5_isOrder 99 = .ok (.bipush 14, 2) := dk_16 14 (dk_at dksX5_isOrder_4 5 rfl rfl)
theorem dX5_isOrder_101 : decode cX5_isOrder 101 = .ok (.invokevirtual 259, 3) := dk_182 1 3 (dk_at dksX5_isOrder_4 7 rfl rfl)
theorem dX5_isOrder_104 : decode cX5_isOrder 104 = .ok (.ifCond .eq 17, 3) := dk_153 0 17 (dk_at dksX5_isOrder_4 10 rfl rfl)
theorem dX5_isOrder_107 : decode cX5_isOrder 107 = .ok (.aload_n 0, 1) := dk_42 (dk_at dksX5_isOrder_4 13 rfl rfl)
theorem dX5_isOrder_108 : decode cX5_isOrder 108 = .ok (.aload_n 1, 1) := dk_43 (dk_at dksX5_isOrder_4 14 rfl rfl)
theorem dX5_isOrder_109 : decode cX5_isOrder 109 = .ok (.iconst 2, 1) := dk_5 (dk_at dksX5_isOrder_4 15 rfl rfl)
theorem dX5_isOrder_110 : decode cX5_isOrder 110 = .ok (.iload_n 2, 1) := dk_28 (dk_at dksX5_isOrder_4 16 rfl rfl)
theorem dX5_isOrder_111 : decode cX5_isOrder 111 = .ok (.imul, 1) := dk_104 (dk_at dksX5_isOrder_4 17 rfl rfl)
theorem dX5_isOrder_112 : decode cX5_isOrder 112 = .ok (.iconst 1, 1) := dk_4 (dk_at dksX5_isOrder_4 18 rfl rfl)
theorem dX5_isOrder_113 : decode cX5_isOrder 113 = .ok (.iadd, 1) := dk_96 (dk_at dksX5_isOrder_4 19 rfl rfl)
theorem dX5_isOrder_114 : decode cX5_isOrder 114 = .ok (.iconst 1, 1) := dk_4 (dk_at dksX5_isOrder_4 20 rfl rfl)
theorem dX5_isOrder_115 : decode cX5_isOrder 115 = .ok (.invokevirtual 316, 3) := dk_182 1 60 (dk_at dksX5_isOrder_4 21 rfl rfl)
theorem dX5_isOrder_118 : decode cX5_isOrder 118 = .ok (.ifCond .eq 7, 3) := dk_153 0 7 (dk_at dksX5_isOrder_5 0 rfl rfl)
theorem dX5_isOrder_121 : decode cX5_isOrder 121 = .ok (.iconst 1, 1) := dk_4 (dk_at dksX5_isOrder_5 3 rfl rfl)
theorem dX5_isOrder_122 : decode cX5_isOrder 122 = .ok (.goto 4, 3) := dk_167 0 4 (dk_at dksX5_isOrder_5 4 rfl rfl)
theorem dX5_isOrder_125 : decode cX5_isOrder 125 = .ok (.iconst 0, 1) := dk_3 (dk_at dksX5_isOrder_5 7 rfl rfl)
theorem dX5_isOrder_126 : decode cX5_isOrder 126 = .ok (.ireturn, 1) := dk_172 (dk_at dksX5_isOrder_5 8 rfl rfl)
theorem fdX5_313_4 : sd_Fd "SofaDigModel" 313 4 12 := ⟨(RX5, TX5, 18), "SofaDigModel", rfl, by decide, rfl, in_X5, Or.inl rfl, Or.inl q2862⟩
theorem fpX5_313_4 (n d : String) : sd_Fp ⟨"SofaDigModel", n, d⟩ 313 4 12 .int := ⟨(RX5, TX5, 18), "SofaDigModel", tyX5, rfl, by decide, rfl, in_X5, Or.inl rfl, tyX5_ok, nmX5, rfl, Or.inl ⟨rfl, Or.inl q2862⟩⟩
theorem fdX5_154_5 : sd_Fd "SofaDigModel" 154 5 13 := ⟨(RX6, TX6, 19), "SofaDigModel$Plan", rfl, by decide, rfl, in_X6, Or.inl rfl, Or.inr ⟨_, q2795⟩⟩
abbrev mX5_isOrder : sd_Y := (yX5_isOrder, cX5_isOrder, 3, some (.boolean), none)
def fX5_isOrder (G : sd_G) (a0 : Nat) (a1 : Nat) : sd_M Int32 :=
  sd_bnd (sd_getI G 4 12 a0) fun v1 =>
  sd_bnd (fJ4_min G 15 v1) fun r2 =>
  sd_bnd (sd_getI G 4 12 a0) fun v3 =>
  sd_bnd (sd_put 4 12 .int a0 (.int (v3 + 1))) fun _ =>
  sd_bnd (sd_getR G 5 13 a1) fun v4 =>
  sd_bnd (sd_getR G 4 5 a0) fun v5 =>
  sd_bnd (sd_getI G 4 10 a0) fun v6 =>
  sd_bnd (sd_aldI G 0 v5 v6) fun v7 =>
  sd_bnd (sd_astI 0 v4 r2 v7) fun _ =>
  sd_bnd (sd_getR G 4 7 a0) fun v8 =>
  sd_bnd (sd_getI G 4 10 a0) fun v9 =>
  sd_bnd (sd_astI 0 v8 v9 11) fun _ =>
  sd_bnd (sd_getI G 4 10 a0) fun v10 =>
  sd_bnd (sd_put 4 10 .int a0 (.int (v10 + 1))) fun _ =>
  sd_bnd (sd_isC G 4 a0) fun _ =>
  sd_bnd (fX5_isPart G a0 a1 ((2 : Int32) * r2) 0) fun r11 =>
  if r11 = 0 then (
    sd_ret 0)
  else (
    sd_bnd (sd_getR G 5 14 a1) fun v12 =>
    sd_bnd (sd_getI G 5 18 a1) fun v13 =>
    sd_bnd (sd_astI 0 v12 (((2 : Int32) * r2) + 1) v13) fun _ =>
    sd_bnd (sd_getR G 5 15 a1) fun v14 =>
    sd_bnd (sd_getI G 5 18 a1) fun v15 =>
    sd_bnd (sd_astI 0 v14 (((2 : Int32) * r2) + 1) v15) fun _ =>
    sd_bnd (sd_isC G 4 a0) fun _ =>
    sd_bnd (fX5_eat G a0 14) fun r16 =>
    if r16 = 0 then (
      sd_ret 1)
    else (
      sd_bnd (sd_isC G 4 a0) fun _ =>
      sd_bnd (fX5_isPart G a0 a1 (((2 : Int32) * r2) + 1) 1) fun r17 =>
      if r17 = 0 then (
        sd_ret 0)
      else (
        sd_ret 1)))
set_option maxHeartbeats 4000000 in
theorem sX5_isOrder (l : Launch) (G : sd_G) (a0 : Nat) (a1 : Nat) (h : sd_H) (ρ : Int32) (cT : Nat × Nat) (h2 : sd_H) (hf : fX5_isOrder G a0 a1 h = some (ρ, cT, h2)) : sd_Met mX5_isOrder ((l, G), (110, 4845), [.ref a0, .ref a1], (sd_oI ρ, h2), cT) h := by
  refine sd_entry (plainFor_of_name rfl) rfl (Nat.le_of_ble_eq_true rfl) ?_
  show sd_J mX5_isOrder ((l, G), (110, 4845), [.ref a0, .ref a1], (sd_oI ρ, h2), cT) 0 [(0, .ref a0), (1, .ref a1)] [] h cT
  unfold fX5_isOrder at hf
  refine sj_bipush (v := 15) dX5_isOrder_0 (by decide) ?_
  refine sj_aload_n 0 dX5_isOrder_2 rfl ?_
  refine sj_getI fdX5_313_4 hf dX5_isOrder_3 (fun v1 hf => ?_)
  refine sj_cI (rest := []) (fun _ _ _ e => sj_runS (n := 2) (rest := []) (sJ4_min l G 15 v1 h _ _ _ e) rfl rfl q2993 q432 q124 q433 (by decide +kernel) rfl ⟨Nat.le_of_ble_eq_true rfl, Nat.le_of_ble_eq_true rfl⟩ rfl (Nat.le_of_ble_eq_true rfl) dX5_isOrder_6) hf (fun r2 h c hf => ?_)
  refine sj_istore_n [(2, .int r2), (0, .ref a0), (1, .ref a1)] dX5_isOrder_9 (by decide) rfl ?_
  refine sj_aload_n 1 dX5_isOrder_10 rfl ?_
  refine sj_dup dX5_isOrder_11 rfl ?_
  refine sj_getI fdX5_313_4 hf dX5_isOrder_12 (fun v3 hf => ?_)
  refine sj_iconst (v := 1) dX5_isOrder_15 (by decide) ?_
  refine sj_iadd dX5_isOrder_16 ?_
  refine sj_put (fpX5_313_4 _ _) hf dX5_isOrder_17 (fun h hf => ?_)
  refine sj_aload_n 2 dX5_isOrder_20 rfl ?_
  refine sj_getR fdX5_154_5 hf dX5_isOrder_21 (fun v4 hf => ?_)
  refine sj_iload_n 0 dX5_isOrder_24 rfl ?_
  refine sj_aload_n 1 dX5_isOrder_25 rfl ?_
  refine sj_getR fdX5_24_4 hf dX5_isOrder_26 (fun v5 hf => ?_)
  refine sj_aload_n 1 dX5_isOrder_29 rfl ?_
  refine sj_getI fdX5_256_4 hf dX5_isOrder_30 (fun v6 hf => ?_)
  refine sj_iald hf dX5_isOrder_33 (fun v7 hf => ?_)
  refine sj_iast hf dX5_isOrder_34 (fun h hf => ?_)
  refine sj_aload_n 1 dX5_isOrder_35 rfl ?_
  refine sj_getR fdX5_30_4 hf dX5_isOrder_36 (fun v8 hf => ?_)
  refine sj_aload_n 1 dX5_isOrder_39 rfl ?_
  refine sj_getI fdX5_256_4 hf dX5_isOrder_40 (fun v9 hf => ?_)
  refine sj_bipush (v := 11) dX5_isOrder_43 (by decide) ?_
  refine sj_iast hf dX5_isOrder_45 (fun h hf => ?_)
  refine sj_aload_n 1 dX5_isOrder_46 rfl ?_
  refine sj_dup dX5_isOrder_47 rfl ?_
  refine sj_getI fdX5_256_4 hf dX5_isOrder_48 (fun v10 hf => ?_)
  refine sj_iconst (v := 1) dX5_isOrder_51 (by decide) ?_
  refine sj_iadd dX5_isOrder_52 ?_
  refine sj_put (fpX5_256_4 _ _) hf dX5_isOrder_53 (fun h hf => ?_)
  refine sj_aload_n 1 dX5_isOrder_56 rfl ?_
  refine sj_aload_n 2 dX5_isOrder_57 rfl ?_
  refine sj_iconst (v := 2) dX5_isOrder_58 (by decide) ?_
  refine sj_iload_n 0 dX5_isOrder_59 rfl ?_
  refine sj_imul dX5_isOrder_60 ?_
  refine sj_iconst (v := 0) dX5_isOrder_61 (by decide) ?_
  obtain ⟨fs62, he62, hf⟩ := sd_isC_some hf
  refine sj_cI (rest := []) (fun _ _ _ e => sj_runV (n := 3) (As := [.ref a1, .int ((2 : Int32) * r2), .int 0]) (rest := []) (sX5_isPart l G a0 a1 ((2 : Int32) * r2) 0 h _ _ _ e) he62 rfl rfl rfl rfl q2994 q2996 qs55 q127 q2997 (by decide +kernel) rfl rfl ⟨Nat.le_of_ble_eq_true rfl, Nat.le_of_ble_eq_true rfl⟩ rfl (Nat.le_of_ble_eq_true rfl) dX5_isOrder_62) hf (fun r11 h c hf => ?_)
  refine sj_ifne 70 hf dX5_isOrder_65 (by decide) (fun g65 hf => ?_) (fun g65 hf => ?_)
  · refine sj_aload_n 2 dX5_isOrder_70 rfl ?_
    refine sj_getR fdX5_182_5 hf dX5_isOrder_71 (fun v12 hf => ?_)
    refine sj_iconst (v := 2) dX5_isOrder_74 (by decide) ?_
    refine sj_iload_n 0 dX5_isOrder_75 rfl ?_
    refine sj_imul dX5_isOrder_76 ?_
    refine sj_iconst (v := 1) dX5_isOrder_77 (by decide) ?_
    refine sj_iadd dX5_isOrder_78 ?_
    refine sj_aload_n 2 dX5_isOrder_79 rfl ?_
    refine sj_getI fdX5_265_5 hf dX5_isOrder_80 (fun v13 hf => ?_)
    refine sj_iast hf dX5_isOrder_83 (fun h hf => ?_)
    refine sj_aload_n 2 dX5_isOrder_84 rfl ?_
    refine sj_getR fdX5_185_5 hf dX5_isOrder_85 (fun v14 hf => ?_)
    refine sj_iconst (v := 2) dX5_isOrder_88 (by decide) ?_
    refine sj_iload_n 0 dX5_isOrder_89 rfl ?_
    refine sj_imul dX5_isOrder_90 ?_
    refine sj_iconst (v := 1) dX5_isOrder_91 (by decide) ?_
    refine sj_iadd dX5_isOrder_92 ?_
    refine sj_aload_n 2 dX5_isOrder_93 rfl ?_
    refine sj_getI fdX5_265_5 hf dX5_isOrder_94 (fun v15 hf => ?_)
    refine sj_iast hf dX5_isOrder_97 (fun h hf => ?_)
    refine sj_aload_n 1 dX5_isOrder_98 rfl ?_
    refine sj_bipush (v := 14) dX5_isOrder_99 (by decide) ?_
    obtain ⟨fs101, he101, hf⟩ := sd_isC_some hf
    refine sj_cI (rest := []) (fun _ _ _ e => sj_runV (n := 1) (As := [.int 14]) (rest := []) (sX5_eat l G a0 14 h _ _ _ e) he101 rfl rfl rfl rfl q2977 q2979 qs51 q127 q2980 (by decide +kernel) rfl rfl ⟨Nat.le_of_ble_eq_true rfl, Nat.le_of_ble_eq_true rfl⟩ rfl (Nat.le_of_ble_eq_true rfl) dX5_isOrder_101) hf (fun r16 h c hf => ?_)
    refine sj_ifeq 121 hf dX5_isOrder_104 (by decide) (fun g104 hf => ?_) (fun g104 hf => ?_)
    · refine sj_iconst (v := 1) dX5_isOrder_121 (by decide) ?_
      refine sj_goto 126 dX5_isOrder_122 (by decide) ?_
      exact sj_zretC (o := sd_oI) (ty := .boolean) rfl hf rfl rfl rfl dX5_isOrder_126
    · refine sj_aload_n 1 dX5_isOrder_107 rfl ?_
      refine sj_aload_n 2 dX5_isOrder_108 rfl ?_
      refine sj_iconst (v := 2) dX5_isOrder_109 (by decide) ?_
      refine sj_iload_n 0 dX5_isOrder_110 rfl ?_
      refine sj_imul dX5_isOrder_111 ?_
      refine sj_iconst (v := 1) dX5_isOrder_112 (by decide) ?_
      refine sj_iadd dX5_isOrder_113 ?_
      refine sj_iconst (v := 1) dX5_isOrder_114 (by decide) ?_
      obtain ⟨fs115, he115, hf⟩ := sd_isC_some hf
      refine sj_cI (rest := []) (fun _ _ _ e => sj_runV (n := 3) (As := [.ref a1, .int (((2 : Int32) * r2) + 1), .int 1]) (rest := []) (sX5_isPart l G a0 a1 (((2 : Int32) * r2) + 1) 1 h _ _ _ e) he115 rfl rfl rfl rfl q2994 q2996 qs55 q127 q2997 (by decide +kernel) rfl rfl ⟨Nat.le_of_ble_eq_true rfl, Nat.le_of_ble_eq_true rfl⟩ rfl (Nat.le_of_ble_eq_true rfl) dX5_isOrder_115) hf (fun r17 h c hf => ?_)
      refine sj_ifeq 125 hf dX5_isOrder_118 (by decide) (fun g118 hf => ?_) (fun g118 hf => ?_)
      · refine sj_iconst (v := 0) dX5_isOrder_125 (by decide) ?_
        exact sj_zretC (o := sd_oI) (ty := .boolean) rfl hf rfl rfl rfl dX5_isOrder_126
      · refine sj_iconst (v := 1) dX5_isOrder_121 (by decide) ?_
        refine sj_goto 126 dX5_isOrder_122 (by decide) ?_
        exact sj_zretC (o := sd_oI) (ty := .boolean) rfl hf rfl rfl rfl dX5_isOrder_126
  · refine sj_iconst (v := 0) dX5_isOrder_68 (by decide) ?_
    exact sj_zretC (o := sd_oI) (ty := .boolean) rfl hf rfl rfl rfl dX5_isOrder_69
/-! SofaDigModel.isPlace()Z -/
abbrev cX5_isPlace : ByteArray := prog_46_method_66_code
def yX5_isPlace : MethodName := ⟨RX5, "isPlace", "()Z"⟩
def dkwX5_isPlace_1 : List UInt8 := [182, 1, 3, 153, 0, 18, 42, 16, 31, 16, 8, 182, 1, 16, 153, 0, 7, 4, 167, 0, 4, 3, 172]
abbrev dktX5_isPlace_1 : List UInt8 := dkwX5_isPlace_1 ++ []
def dkwX5_isPlace_0 : List UInt8 := [42, 16, 8, 182, 1, 3, 153, 0, 38, 42, 16, 31, 16, 7, 182, 1, 16, 153, 0, 27, 42, 16, 44]
abbrev dktX5_isPlace_0 : List UInt8 := dkwX5_isPlace_0 ++ dktX5_isPlace_1
theorem dksX5_isPlace_0 : cX5_isPlace.data.toList.drop 0 = dktX5_isPlace_0 := by decide +kernel
theorem dksX5_isPlace_1 : cX5_isPlace.data.toList.drop 23 = dktX5_isPlace_1 := dk_seg dksX5_isPlace_0 23 rfl rfl
theorem dX5_isPlace_0 : decode cX5_isPlace 0 = .ok (.aload_n 0, 1) := dk_42 (dk_at dksX5_isPlace_0 0 rfl rfl)
theorem dX5_isPlace_1 : decode cX5_isPlace 1 = .ok (.bipush 8, 2) := dk_16 8 (dk_at dksX5_isPlace_0 1 rfl rfl)
theorem dX5_isPlace_3 : decode cX5_isPlace 3 = .ok (.invokevirtual 259, 3) := dk_182 1 3 (dk_at dksX5_isPlace_0 3 rfl rfl)
theorem dX5_isPlace_6 : decode cX5_isPlace 6 = .ok (.ifCond .eq 38, 3) := dk_153 0 38 (dk_at dksX5_isPlace_0 6 rfl rfl)
theorem dX5_isPlace_9 : decode cX5_isPlace 9 = .ok (.aload_n 0, 1) := dk_42 (dk_at dksX5_isPlace_0 9 rfl rfl)
theorem dX5_isPlace_10 : decode cX5_isPlace 10 = .ok (.bipush 31, 2) := dk_16 31 (dk_at dksX5_isPlace_0 10 rfl rfl)
theorem dX5_isPlace_12 : decode cX5_isPlace 12 = .ok (.bipush 7, 2) := dk_16 7 (dk_at dksX5_isPlace_0 12 rfl rfl)
theorem dX5_isPlace_14 : decode cX5_isPlace 14 = .ok (.invokevirtual 272, 3) := dk_182 1 16 (dk_at dksX5_isPlace_0 14 rfl rfl)
theorem dX5_isPlace_17 : decode cX5_isPlace 17 = .ok (.ifCond .eq 27, 3) := dk_153 0 27 (dk_at dksX5_isPlace_0 17 rfl rfl)
theorem dX5_isPlace_20 : decode cX5_isPlace 20 = .ok (.aload_n 0, 1) := dk_42 (dk_at dksX5_isPlace_0 20 rfl rfl)
theorem dX5_isPlace_21 : decode cX5_isPlace 21 = .ok (.bipush 44, 2) := dk_16 44 (dk_at dksX5_isPlace_0 21 rfl rfl)
theorem dX5_isPlace_23 : decode cX5_isPlace 23 = .ok (.invokevirtual 259, 3) := dk_182 1 3 (dk_at dksX5_isPlace_1 0 rfl rfl)
theorem dX5_isPlace_26 : decode cX5_isPlace 26 = .ok (.ifCond .eq 18, 3) := dk_153 0 18 (dk_at dksX5_isPlace_1 3 rfl rfl)
theorem dX5_isPlace_29 : decode cX5_isPlace 29 = .ok (.aload_n 0, 1) := dk_42 (dk_at dksX5_isPlace_1 6 rfl rfl)
theorem dX5_isPlace_30 : decode cX5_isPlace 30 = .ok (.bipush 31, 2) := dk_16 31 (dk_at dksX5_isPlace_1 7 rfl rfl)
theorem dX5_isPlace_32 : decode cX5_isPlace 32 = .ok (.bipush 8, 2) := dk_16 8 (dk_at dksX5_isPlace_1 9 rfl rfl)
theorem dX5_isPlace_34 : decode cX5_isPlace 34 = .ok (.invokevirtual 272, 3) := dk_182 1 16 (dk_at dksX5_isPlace_1 11 rfl rfl)
theorem dX5_isPlace_37 : decode cX5_isPlace 37 = .ok (.ifCond .eq 7, 3) := dk_153 0 7 (dk_at dksX5_isPlace_1 14 rfl rfl)
theorem dX5_isPlace_40 : decode cX5_isPlace 40 = .ok (.iconst 1, 1) := dk_4 (dk_at dksX5_isPlace_1 17 rfl rfl)
theorem dX5_isPlace_41 : decode cX5_isPlace 41 = .ok (.goto 4, 3) := dk_167 0 4 (dk_at dksX5_isPlace_1 18 rfl rfl)
theorem dX5_isPlace_44 : decode cX5_isPlace 44 = .ok (.iconst 0, 1) := dk_3 (dk_at dksX5_isPlace_1 21 rfl rfl)
theorem dX5_isPlace_45 : decode cX5_isPlace 45 = .ok (.ireturn, 1) := dk_172 (dk_at dksX5_isPlace_1 22 rfl rfl)
abbrev mX5_isPlace : sd_Y := (yX5_isPlace, cX5_isPlace, 1, some (.boolean), none)
def fX5_isPlace (G : sd_G) (a0 : Nat) : sd_M Int32 :=
  sd_bnd (sd_isC G 4 a0) fun _ =>
  sd_bnd (fX5_eat G a0 8) fun r1 =>
  if r1 = 0 then (
    sd_ret 0)
  else (
    sd_bnd (sd_isC G 4 a0) fun _ =>
    sd_bnd (fX5_eatAs G a0 31 7) fun r2 =>
    if r2 = 0 then (
      sd_ret 0)
    else (
      sd_bnd (sd_isC G 4 a0) fun _ =>
      sd_bnd (fX5_eat G a0 44) fun r3 =>
      if r3 = 0 then (
        sd_ret 0)
      else (
        sd_bnd (sd_isC G 4 a0) fun _ =>
        sd_bnd (fX5_eatAs G a0 31 8) fun r4 =>
        if r4 = 0 then (
          sd_ret 0)
        else (
          sd_ret 1))))
set_option maxHeartbeats 4000000 in
theorem sX5_isPlace (l : Launch) (G : sd_G) (a0 : Nat) (h : sd_H) (ρ : Int32) (cT : Nat × Nat) (h2 : sd_H) (hf : fX5_isPlace G a0 h = some (ρ, cT, h2)) : sd_Met mX5_isPlace ((l, G), (2, 43), [.ref a0], (sd_oI ρ, h2), cT) h := by
  refine sd_entry (plainFor_of_name rfl) rfl (Nat.le_of_ble_eq_true rfl) ?_
  show sd_J mX5_isPlace ((l, G), (2, 43), [.ref a0], (sd_oI ρ, h2), cT) 0 [(0, .ref a0)] [] h cT
  unfold fX5_isPlace at hf
  refine sj_aload_n 0 dX5_isPlace_0 rfl ?_
  refine sj_bipush (v := 8) dX5_isPlace_1 (by decide) ?_
  obtain ⟨fs3, he3, hf⟩ := sd_isC_some hf
  refine sj_cI (rest := []) (fun _ _ _ e => sj_runV (n := 1) (As := [.int 8]) (rest := []) (sX5_eat l G a0 8 h _ _ _ e) he3 rfl rfl rfl rfl q2977 q2979 qs51 q127 q2980 (by decide +kernel) rfl rfl ⟨Nat.le_of_ble_eq_true rfl, Nat.le_of_ble_eq_true rfl⟩ rfl (Nat.le_of_ble_eq_true rfl) dX5_isPlace_3) hf (fun r1 h c hf => ?_)
  refine sj_ifeq 44 hf dX5_isPlace_6 (by decide) (fun g6 hf => ?_) (fun g6 hf => ?_)
  · refine sj_iconst (v := 0) dX5_isPlace_44 (by decide) ?_
    exact sj_zretC (o := sd_oI) (ty := .boolean) rfl hf rfl rfl rfl dX5_isPlace_45
  · refine sj_aload_n 0 dX5_isPlace_9 rfl ?_
    refine sj_bipush (v := 31) dX5_isPlace_10 (by decide) ?_
    refine sj_bipush (v := 7) dX5_isPlace_12 (by decide) ?_
    obtain ⟨fs14, he14, hf⟩ := sd_isC_some hf
    refine sj_cI (rest := []) (fun _ _ _ e => sj_runV (n := 2) (As := [.int 31, .int 7]) (rest := []) (sX5_eatAs l G a0 31 7 h _ _ _ e) he14 rfl rfl rfl rfl q2981 q2983 qs52 q127 q2984 (by decide +kernel) rfl rfl ⟨Nat.le_of_ble_eq_true rfl, Nat.le_of_ble_eq_true rfl⟩ rfl (Nat.le_of_ble_eq_true rfl) dX5_isPlace_14) hf (fun r2 h c hf => ?_)
    refine sj_ifeq 44 hf dX5_isPlace_17 (by decide) (fun g17 hf => ?_) (fun g17 hf => ?_)
    · refine sj_iconst (v := 0) dX5_isPlace_44 (by decide) ?_
      exact sj_zretC (o := sd_oI) (ty := .boolean) rfl hf rfl rfl rfl dX5_isPlace_45
    · refine sj_aload_n 0 dX5_isPlace_20 rfl ?_
      refine sj_bipush (v := 44) dX5_isPlace_21 (by decide) ?_
      obtain ⟨fs23, he23, hf⟩ := sd_isC_some hf
      refine sj_cI (rest := []) (fun _ _ _ e => sj_runV (n := 1) (As := [.int 44]) (rest := []) (sX5_eat l G a0 44 h _ _ _ e) he23 rfl rfl rfl rfl q2977 q2979 qs51 q127 q2980 (by decide +kernel) rfl rfl ⟨Nat.le_of_ble_eq_true rfl, Nat.le_of_ble_eq_true rfl⟩ rfl (Nat.le_of_ble_eq_true rfl) dX5_isPlace_23) hf (fun r3 h c hf => ?_)
      refine sj_ifeq 44 hf dX5_isPlace_26 (by decide) (fun g26 hf => ?_) (fun g26 hf => ?_)
      · refine sj_iconst (v := 0) dX5_isPlace_44 (by decide) ?_
        exact sj_zretC (o := sd_oI) (ty := .boolean) rfl hf rfl rfl rfl dX5_isPlace_45
      · refine sj_aload_n 0 dX5_isPlace_29 rfl ?_
        refine sj_bipush (v := 31) dX5_isPlace_30 (by decide) ?_
        refine sj_bipush (v := 8) dX5_isPlace_32 (by decide) ?_
        obtain ⟨fs34, he34, hf⟩ := sd_isC_some hf
        refine sj_cI (rest := []) (fun _ _ _ e => sj_runV (n := 2) (As := [.int 31, .int 8]) (rest := []) (sX5_eatAs l G a0 31 8 h _ _ _ e) he34 rfl rfl rfl rfl q2981 q2983 qs52 q127 q2984 (by decide +kernel) rfl rfl ⟨Nat.le_of_ble_eq_true rfl, Nat.le_of_ble_eq_true rfl⟩ rfl (Nat.le_of_ble_eq_true rfl) dX5_isPlace_34) hf (fun r4 h c hf => ?_)
        refine sj_ifeq 44 hf dX5_isPlace_37 (by decide) (fun g37 hf => ?_) (fun g37 hf => ?_)
        · refine sj_iconst (v := 0) dX5_isPlace_44 (by decide) ?_
          exact sj_zretC (o := sd_oI) (ty := .boolean) rfl hf rfl rfl rfl dX5_isPlace_45
        · refine sj_iconst (v := 1) dX5_isPlace_40 (by decide) ?_
          refine sj_goto 45 dX5_isPlace_41 (by decide) ?_
          exact sj_zretC (o := sd_oI) (ty := .boolean) rfl hf rfl rfl rfl dX5_isPlace_45
/-! SofaDigModel.isLine(LSofaDigModel$Plan;)Z -/
abbrev cX5_isLine : ByteArray := prog_46_method_67_code
def yX5_isLine : MethodName := ⟨RX5, "isLine", "(LSofaDigModel$Plan;)Z"⟩
def dkwX5_isLine_9 : List UInt8 := [16, 30, 16, 10, 182, 1, 16, 153, 0, 7, 4, 167, 0, 4, 3, 172]
abbrev dktX5_isLine_9 : List UInt8 := dkwX5_isLine_9 ++ []
def dkwX5_isLine_8 : List UInt8 := [182, 1, 16, 153, 0, 34, 42, 182, 1, 67, 153, 0, 27, 42, 16, 10, 182, 1, 3, 153, 0, 18, 42]
abbrev dktX5_isLine_8 : List UInt8 := dkwX5_isLine_8 ++ dktX5_isLine_9
def dkwX5_isLine_7 : List UInt8 := [182, 1, 16, 153, 0, 7, 4, 167, 0, 4, 3, 172, 28, 16, 6, 160, 0, 45, 42, 16, 6, 16, 6]
abbrev dktX5_isLine_7 : List UInt8 := dkwX5_isLine_7 ++ dktX5_isLine_8
def dkwX5_isLine_6 : List UInt8 := [153, 0, 34, 42, 182, 1, 67, 153, 0, 27, 42, 16, 9, 182, 1, 3, 153, 0, 18, 42, 16, 31, 16, 9]
abbrev dktX5_isLine_6 : List UInt8 := dkwX5_isLine_6 ++ dktX5_isLine_7
def dkwX5_isLine_5 : List UInt8 := [182, 1, 67, 153, 0, 7, 4, 167, 0, 4, 3, 172, 28, 8, 160, 0, 46, 42, 8, 16, 6, 182, 1, 16]
abbrev dktX5_isLine_5 : List UInt8 := dkwX5_isLine_5 ++ dktX5_isLine_6
def dkwX5_isLine_4 : List UInt8 := [4, 167, 0, 4, 3, 172, 28, 16, 7, 160, 0, 26, 42, 16, 7, 3, 182, 1, 16, 153, 0, 14, 42]
abbrev dktX5_isLine_4 : List UInt8 := dkwX5_isLine_4 ++ dktX5_isLine_5
def dkwX5_isLine_3 : List UInt8 := [182, 1, 16, 153, 0, 25, 42, 7, 182, 1, 3, 153, 0, 17, 42, 16, 31, 8, 182, 1, 16, 153, 0, 7]
abbrev dktX5_isLine_3 : List UInt8 := dkwX5_isLine_3 ++ dktX5_isLine_4
def dkwX5_isLine_2 : List UInt8 := [42, 16, 30, 6, 182, 1, 16, 153, 0, 43, 42, 6, 182, 1, 3, 153, 0, 35, 42, 16, 31, 7]
abbrev dktX5_isLine_2 : List UInt8 := dkwX5_isLine_2 ++ dktX5_isLine_3
def dkwX5_isLine_1 : List UInt8 := [16, 13, 160, 0, 9, 42, 43, 182, 1, 64, 172, 28, 5, 160, 0, 63, 42, 5, 182, 1, 3, 153, 0, 53]
abbrev dktX5_isLine_1 : List UInt8 := dkwX5_isLine_1 ++ dktX5_isLine_2
def dkwX5_isLine_0 : List UInt8 := [42, 180, 0, 24, 42, 180, 1, 0, 46, 61, 28, 16, 11, 159, 0, 15, 28, 16, 12, 159, 0, 9, 28]
abbrev dktX5_isLine_0 : List UInt8 := dkwX5_isLine_0 ++ dktX5_isLine_1
theorem dksX5_isLine_0 : cX5_isLine.data.toList.drop 0 = dktX5_isLine_0 := by decide +kernel
theorem dksX5_isLine_1 : cX5_isLine.data.toList.drop 23 = dktX5_isLine_1 := dk_seg dksX5_isLine_0 23 rfl rfl
theorem dksX5_isLine_2 : cX5_isLine.data.toList.drop 47 = dktX5_isLine_2 := dk_seg dksX5_isLine_1 24 rfl rfl
theorem dksX5_isLine_3 : cX5_isLine.data.toList.drop 69 = dktX5_isLine_3 := dk_seg dksX5_isLine_2 22 rfl rfl
theorem dksX5_isLine_4 : cX5_isLine.data.toList.drop 93 = dktX5_isLine_4 := dk_seg dksX5_isLine_3 24 rfl rfl
theorem dksX5_isLine_5 : cX5_isLine.data.toList.drop 116 = dktX5_isLine_5 := dk_seg dksX5_isLine_4 23 rfl rfl
theorem dksX5_isLine_6 : cX5_isLine.data.toList.drop 140 = dktX5_isLine_6 := dk_seg dksX5_isLine_5 24 rfl rfl
theorem dksX5_isLine_7 : cX5_isLine.data.toList.drop 164 = dktX5_isLine_7 := dk_seg dksX5_isLine_6 24 rfl rfl
theorem dksX5_isLine_8 : cX5_isLine.data.toList.drop 187 = dktX5_isLine_8 := dk_seg dksX5_isLine_7 23 rfl rfl
theorem dksX5_isLine_9 : cX5_isLine.data.toList.drop 210 = dktX5_isLine_9 := dk_seg dksX5_isLine_8 23 rfl rfl
theorem dX5_isLine_0 : decode cX5_isLine 0 = .ok (.aload_n 0, 1) := dk_42 (dk_at dksX5_isLine_0 0 rfl rfl)
theorem dX5_isLine_1 : decode cX5_isLine 1 = .ok (.getfield 24, 3) := dk_180 0 24 (dk_at dksX5_isLine_0 1 rfl rfl)
theorem dX5_isLine_4 : decode cX5_isLine 4 = .ok (.aload_n 0, 1) := dk_42 (dk_at dksX5_isLine_0 4 rfl rfl)
theorem dX5_isLine_5 : decode cX5_isLine 5 = .ok (.getfield 256, 3) := dk_180 1 0 (dk_at dksX5_isLine_0 5 rfl rfl)
theorem dX5_isLine_8 : decode cX5_isLine 8 = .ok (.iaload, 1) := dk_46 (dk_at dksX5_isLine_0 8 rfl rfl)
theorem dX5_isLine_9 : decode cX5_isLine 9 = .ok (.istore_n 2, 1) := dk_61 (dk_at dksX5_isLine_0 9 rfl rfl)
theorem dX5_isLine_10 : decode cX5_isLine 10 = .ok (.iload_n 2, 1) := dk_28 (dk_at dksX5_isLine_0 10 rfl rfl)
theorem dX5_isLine_11 : decode cX5_isLine 11 = .ok (.bipush 11, 2) := dk_16 11 (dk_at dksX5_isLine_0 11 rfl rfl)
theorem dX5_isLine_13 : decode cX5_isLine 13 = .ok (.if_icmp .eq 15, 3) := dk_159 0 15 (dk_at dksX5_isLine_0 13 rfl rfl)
theorem dX5_isLine_16 : decode cX5_isLine 16 = .ok (.iload_n 2, 1) := dk_28 (dk_at dksX5_isLine_0 16 rfl rfl)
theorem dX5_isLine_17 : decode cX5_isLine 17 = .ok (.bipush 12, 2) := dk_16 12 (dk_at dksX5_isLine_0 17 rfl rfl)
theorem dX5_isLine_19 : decode cX5_isLine 19 = .ok (.if_icmp .eq 9, 3) := dk_159 0 9 (dk_at dksX5_isLine_0 19 rfl rfl)
theorem dX5_isLine_22 : decode cX5_isLine 22 = .ok (.iload_n 2, 1) := dk_28 (dk_at dksX5_isLine_0 22 rfl rfl)
theorem dX5_isLine_23 : decode cX5_isLine 23 = .ok (.bipush 13, 2) := dk_16 13 (dk_at dksX5_isLine_1 0 rfl rfl)
theorem dX5_isLine_25 : decode cX5_isLine 25 = .ok (.if_icmp .ne 9, 3) := dk_160 0 9 (dk_at dksX5_isLine_1 2 rfl rfl)
theorem dX5_isLine_28 : decode cX5_isLine 28 = .ok (.aload_n 0, 1) := dk_42 (dk_at dksX5_isLine_1 5 rfl rfl)
theorem dX5_isLine_29 : decode cX5_isLine 29 = .ok (.aload_n 1, 1) := dk_43 (dk_at dksX5_isLine_1 6 rfl rfl)
theorem dX5_isLine_30 : decode cX5_isLine 30 = .ok (.invokevirtual 320, 3) := dk_182 1 64 (dk_at dksX5_isLine_1 7 rfl rfl)
theorem dX5_isLine_33 : decode cX5_isLine 33 = .ok (.ireturn, 1) := dk_172 (dk_at dksX5_isLine_1 10 rfl rfl)
theorem dX5_isLine_34 : decode cX5_isLine 34 = .ok (.iload_n 2, 1) := dk_28 (dk_at dksX5_isLine_1 11 rfl rfl)
theorem dX5_isLine_35 : decode cX5_isLine 35 = .ok (.iconst 2, 1) := dk_5 (dk_at dksX5_isLine_1 12 rfl rfl)
theorem dX5_isLine_36 : decode cX5_isLine 36 = .ok (.if_icmp .ne 63, 3) := dk_160 0 63 (dk_at dksX5_isLine_1 13 rfl rfl)
theorem dX5_isLine_39 : decode cX5_isLine 39 = .ok (.aload_n 0, 1) := dk_42 (dk_at dksX5_isLine_1 16 rfl rfl)
theorem dX5_isLine_40 : decode cX5_isLine 40 = .ok (.iconst 2, 1) := dk_5 (dk_at dksX5_isLine_1 17 rfl rfl)
theorem dX5_isLine_41 : decode cX5_isLine 41 = .ok (.invokevirtual 259, 3) := dk_182 1 3 (dk_at dksX5_isLine_1 18 rfl rfl)
theorem dX5_isLine_44 : decode cX5_isLine 44 = .ok (.ifCond .eq 53, 3) := dk_153 0 53 (dk_at dksX5_isLine_1 21 rfl rfl)
theorem dX5_isLine_47 : decode cX5_isLine 47 = .ok (.aload_n 0, 1) := dk_42 (dk_at dksX5_isLine_2 0 rfl rfl)
theorem dX5_isLine_48 : decode cX5_isLine 48 = .ok (.bipush 30, 2) := dk_16 30 (dk_at dksX5_isLine_2 1 rfl rfl)
theorem dX5_isLine_50 : decode cX5_isLine 50 = .ok (.iconst 3, 1) := dk_6 (dk_at dksX5_isLine_2 3 rfl rfl)
theorem dX5_isLine_51 : decode cX5_isLine 51 = .ok (.invokevirtual 272, 3) := dk_182 1 16 (dk_at dksX5_isLine_2 4 rfl rfl)
theorem dX5_isLine_54 : decode cX5_isLine 54 = .ok (.ifCond .eq 43, 3) := dk_153 0 43 (dk_at dksX5_isLine_2 7 rfl rfl)
theorem dX5_isLine_57 : decode cX5_isLine 57 = .ok (.aload_n 0, 1) := dk_42 (dk_at dksX5_isLine_2 10 rfl rfl)
theorem dX5_isLine_58 : decode cX5_isLine 58 = .ok (.iconst 3, 1) := dk_6 (dk_at dksX5_isLine_2 11 rfl rfl)
theorem dX5_isLine_59 : decode cX5_isLine 59 = .ok (.invokevirtual 259, 3) := dk_182 1 3 (dk_at dksX5_isLine_2 12 rfl rfl)
theorem dX5_isLine_62 : decode cX5_isLine 62 = .ok (.ifCond .eq 35, 3) := dk_153 0 35 (dk_at dksX5_isLine_2 15 rfl rfl)
theorem dX5_isLine_65 : decode cX5_isLine 65 = .ok (.aload_n 0, 1) := dk_42 (dk_at dksX5_isLine_2 18 rfl rfl)
theorem dX5_isLine_66 : decode cX5_isLine 66 = .ok (.bipush 31, 2) := dk_16 31 (dk_at dksX5_isLine_2 19 rfl rfl)
theorem dX5_isLine_68 : decode cX5_isLine 68 = .ok (.iconst 4, 1) := dk_7 (dk_at dksX5_isLine_2 21 rfl rfl)
theorem dX5_isLine_69 : decode cX5_isLine 69 = .ok (.invokevirtual 272, 3) := dk_182 1 16 (dk_at dksX5_isLine_3 0 rfl rfl)
theorem dX5_isLine_72 : decode cX5_isLine 72 = .ok (.ifCond .eq 25, 3) := dk_153 0 25 (dk_at dksX5_isLine_3 3 rfl rfl)
theorem dX5_isLine_75 : decode cX5_isLine 75 = .ok (.aload_n 0, 1) := dk_42 (dk_at dksX5_isLine_3 6 rfl rfl)
theorem dX5_isLine_76 : decode cX5_isLine 76 = .ok (.iconst 4, 1) := dk_7 (dk_at dksX5_isLine_3 7 rfl rfl)
theorem dX5_isLine_77 : decode cX5_isLine 77 = .ok (.invokevirtual 259, 3) := dk_182 1 3 (dk_at dksX5_isLine_3 8 rfl rfl)
theorem dX5_isLine_80 : decode cX5_isLine 80 = .ok (.ifCond .eq 17, 3) := dk_153 0 17 (dk_at dksX5_isLine_3 11 rfl rfl)
theorem dX5_isLine_83 : decode cX5_isLine 83 = .ok (.aload_n 0, 1) := dk_42 (dk_at dksX5_isLine_3 14 rfl rfl)
theorem dX5_isLine_84 : decode cX5_isLine 84 = .ok (.bipush 31, 2) := dk_16 31 (dk_at dksX5_isLine_3 15 rfl rfl)
theorem dX5_isLine_86 : decode cX5_isLine 86 = .ok (.iconst 5, 1) := dk_8 (dk_at dksX5_isLine_3 17 rfl rfl)
theorem dX5_isLine_87 : decode cX5_isLine 87 = .ok (.invokevirtual 272, 3) := dk_182 1 16 (dk_at dksX5_isLine_3 18 rfl rfl)
theorem dX5_isLine_90 : decode cX5_isLine 90 = .ok (.ifCond .eq 7, 3) := dk_153 0 7 (dk_at dksX5_isLine_3 21 rfl rfl)
theorem dX5_isLine_93 : decode cX5_isLine 93 = .ok (.iconst 1, 1) := dk_4 (dk_at dksX5_isLine_4 0 rfl rfl)
theorem dX5_isLine_94 : decode cX5_isLine 94 = .ok (.goto 4, 3) := dk_167 0 4 (dk_at dksX5_isLine_4 1 rfl rfl)
theorem dX5_isLine_97 : decode cX5_isLine 97 = .ok (.iconst 0, 1) := dk_3 (dk_at dksX5_isLine_4 4 rfl rfl)
theorem dX5_isLine_98 : decode cX5_isLine 98 = .ok (.ireturn, 1) := dk_172 (dk_at dksX5_isLine_4 5 rfl rfl)
theorem dX5_isLine_99 : decode cX5_isLine 99 = .ok (.iload_n 2, 1) := dk_28 (dk_at dksX5_isLine_4 6 rfl rfl)
theorem dX5_isLine_100 : decode cX5_isLine 100 = .ok (.bipush 7, 2) := dk_16 7 (dk_at dksX5_isLine_4 7 rfl rfl)
theorem dX5_isLine_102 : decode cX5_isLine 102 = .ok (.if_icmp .ne 26, 3) := dk_160 0 26 (dk_at dksX5_isLine_4 9 rfl rfl)
theorem dX5_isLine_105 : decode cX5_isLine 105 = .ok (.aload_n 0, 1) := dk_42 (dk_at dksX5_isLine_4 12 rfl rfl)
theorem dX5_isLine_106 : decode cX5_isLine 106 = .ok (.bipush 7, 2) := dk_16 7 (dk_at dksX5_isLine_4 13 rfl rfl)
theorem dX5_isLine_108 : decode cX5_isLine 108 = .ok (.iconst 0, 1) := dk_3 (dk_at dksX5_isLine_4 15 rfl rfl)
theorem dX5_isLine_109 : decode cX5_isLine 109 = .ok (.invokevirtual 272, 3) := dk_182 1 16 (dk_at dksX5_isLine_4 16 rfl rfl)
theorem dX5_isLine_112 : decode cX5_isLine 112 = .ok (.ifCond .eq 14, 3) := dk_153 0 14 (dk_at dksX5_isLine_4 19 rfl rfl)
theorem dX5_isLine_115 : decode cX5_isLine 115 = .ok (.aload_n 0, 1) := dk_42 (dk_at dksX5_isLine_4 22 rfl rfl)
theorem dX5_isLine_116 : decode cX5_isLine 116 = .ok (.invokevirtual 323, 3) := dk_182 1 67 (dk_at dksX5_isLine_5 0 rfl rfl)
theorem dX5_isLine_119 : decode cX5_isLine 119 = .ok (.ifCond .eq 7, 3) := dk_153 0 7 (dk_at dksX5_isLine_5 3 rfl rfl)
theorem dX5_isLine_122 : decode cX5_isLine 122 = .ok (.iconst 1, 1) := dk_4 (dk_at dksX5_isLine_5 6 rfl rfl)
theorem dX5_isLine_123 : decode cX5_isLine 123 = .ok (.goto 4, 3) := dk_167 0 4 (dk_at dksX5_isLine_5 7 rfl rfl)
theorem dX5_isLine_126 : decode cX5_isLine 126 = .ok (.iconst 0, 1) := dk_3 (dk_at dksX5_isLine_5 10 rfl rfl)
theorem dX5_isLine_127 : decode cX5_isLine 127 = .ok (.ireturn, 1) := dk_172 (dk_at dksX5_isLine_5 11 rfl rfl)
theorem dX5_isLine_128 : decode cX5_isLine 128 = .ok (.iload_n 2, 1) := dk_28 (dk_at dksX5_isLine_5 12 rfl rfl)
theorem dX5_isLine_129 : decode cX5_isLine 129 = .ok (.iconst 5, 1) := dk_8 (dk_at dksX5_isLine_5 13 rfl rfl)
theorem dX5_isLine_130 : decode cX5_isLine 130 = .ok (.if_icmp .ne 46, 3) := dk_160 0 46 (dk_at dksX5_isLine_5 14 rfl rfl)
theorem dX5_isLine_133 : decode cX5_isLine 133 = .ok (.aload_n 0, 1) := dk_42 (dk_at dksX5_isLine_5 17 rfl rfl)
theorem dX5_isLine_134 : decode cX5_isLine 134 = .ok (.iconst 5, 1) := dk_8 (dk_at dksX5_isLine_5 18 rfl rfl)
theorem dX5_isLine_135 : decode cX5_isLine 135 = .ok (.bipush 6, 2) := dk_16 6 (dk_at dksX5_isLine_5 19 rfl rfl)
theorem dX5_isLine_137 : decode cX5_isLine 137 = .ok (.invokevirtual 272, 3) := dk_182 1 16 (dk_at dksX5_isLine_5 21 rfl rfl)
theorem dX5_isLine_140 : decode cX5_isLine 140 = .ok (.ifCond .eq 34, 3) := dk_153 0 34 (dk_at dksX5_isLine_6 0 rfl rfl)
theorem dX5_isLine_143 : decode cX5_isLine 143 = .ok (.aload_n 0, 1) := dk_42 (dk_at dksX5_isLine_6 3 rfl rfl)
theorem dX5_isLine_144 : decode cX5_isLine 144 = .ok (.invokevirtual 323, 3) := dk_182 1 67 (dk_at dksX5_isLine_6 4 rfl rfl)
theorem dX5_isLine_147 : decode cX5_isLine 147 = .ok (.ifCond .eq 27, 3) := dk_153 0 27 (dk_at dksX5_isLine_6 7 rfl rfl)
theorem dX5_isLine_150 : decode cX5_isLine 150 = .ok (.aload_n 0, 1) := dk_42 (dk_at dksX5_isLine_6 10 rfl rfl)
theorem dX5_isLine_151 : decode cX5_isLine 151 = .ok (.bipush 9, 2) := dk_16 9 (dk_at dksX5_isLine_6 11 rfl rfl)
theorem dX5_isLine_153 : decode cX5_isLine 153 = .ok (.invokevirtual 259, 3) := dk_182 1 3 (dk_at dksX5_isLine_6 13 rfl rfl)
theorem dX5_isLine_156 : decode cX5_isLine 156 = .ok (.ifCond .eq 18, 3) := dk_153 0 18 (dk_at dksX5_isLine_6 16 rfl rfl)
theorem dX5_isLine_159 : decode cX5_isLine 159 = .ok (.aload_n 0, 1) := dk_42 (dk_at dksX5_isLine_6 19 rfl rfl)
theorem dX5_isLine_160 : decode cX5_isLine 160 = .ok (.bipush 31, 2) := dk_16 31 (dk_at dksX5_isLine_6 20 rfl rfl)
theorem dX5_isLine_162 : decode cX5_isLine 162 = .ok (.bipush 9, 2) := dk_16 9 (dk_at dksX5_isLine_6 22 rfl rfl)
theorem dX5_isLine_164 : decode cX5_isLine 164 = .ok (.invokevirtual 272, 3) := dk_182 1 16 (dk_at dksX5_isLine_7 0 rfl rfl)
theorem dX5_isLine_167 : decode cX5_isLine 167 = .ok (.ifCond .eq 7, 3) := dk_153 0 7 (dk_at dksX5_isLine_7 3 rfl rfl)
theorem dX5_isLine_170 : decode cX5_isLine 170 = .ok (.iconst 1, 1) := dk_4 (dk_at dksX5_isLine_7 6 rfl rfl)
theorem dX5_isLine_171 : decode cX5_isLine 171 = .ok (.goto 4, 3) := dk_167 0 4 (dk_at dksX5_isLine_7 7 rfl rfl)
theorem dX5_isLine_174 : decode cX5_isLine 174 = .ok (.iconst 0, 1) := dk_3 (dk_at dksX5_isLine_7 10 rfl rfl)
theorem dX5_isLine_175 : decode cX5_isLine 175 = .ok (.ireturn, 1) := dk_172 (dk_at dksX5_isLine_7 11 rfl rfl)
theorem dX5_isLine_176 : decode cX5_isLine 176 = .ok (.iload_n 2, 1) := dk_28 (dk_at dksX5_isLine_7 12 rfl rfl)
theorem dX5_isLine_177 : decode cX5_isLine 177 = .ok (.bipush 6, 2) := dk_16 6 (dk_at dksX5_isLine_7 13 rfl rfl)
theorem dX5_isLine_179 : decode cX5_isLine 179 = .ok (.if_icmp .ne 45, 3) := dk_160 0 45 (dk_at dksX5_isLine_7 15 rfl rfl)
theorem dX5_isLine_182 : decode cX5_isLine 182 = .ok (.aload_n 0, 1) := dk_42 (dk_at dksX5_isLine_7 18 rfl rfl)
theorem dX5_isLine_183 : decode cX5_isLine 183 = .ok (.bipush 6, 2) := dk_16 6 (dk_at dksX5_isLine_7 19 rfl rfl)
theorem dX5_isLine_185 : decode cX5_isLine 185 = .ok (.bipush 6, 2) := dk_16 6 (dk_at dksX5_isLine_7 21 rfl rfl)
theorem dX5_isLine_187 : decode cX5_isLine 187 = .ok (.invokevirtual 272, 3) := dk_182 1 16 (dk_at dksX5_isLine_8 0 rfl rfl)
theorem dX5_isLine_190 : decode cX5_isLine 190 = .ok (.ifCond .eq 34, 3) := dk_153 0 34 (dk_at dksX5_isLine_8 3 rfl rfl)
theorem dX5_isLine_193 : decode cX5_isLine 193 = .ok (.aload_n 0, 1) := dk_42 (dk_at dksX5_isLine_8 6 rfl rfl)
theorem dX5_isLine_194 : decode cX5_isLine 194 = .ok (.invokevirtual 323, 3) := dk_182 1 67 (dk_at dksX5_isLine_8 7 rfl rfl)
theorem dX5_isLine_197 : decode cX5_isLine 197 = .ok (.ifCond .eq 27, 3) := dk_153 0 27 (dk_at dksX5_isLine_8 10 rfl rfl)
theorem dX5_isLine_200 : decode cX5_isLine 200 = .ok (.aload_n 0, 1) := dk_42 (dk_at dksX5_isLine_8 13 rfl rfl)
theorem dX5_isLine_201 : decode cX5_isLine 201 = .ok (.bipush 10, 2) := dk_16 10 (dk_at dksX5_isLine_8 14 rfl rfl)
theorem dX5_isLine_203 : decode cX5_isLine 203 = .ok (.invokevirtual 259, 3) := dk_182 1 3 (dk_at dksX5_isLine_8 16 rfl rfl)
theorem dX5_isLine_206 : decode cX5_isLine 206 = .ok (.ifCond .eq 18, 3) := dk_153 0 18 (dk_at dksX5_isLine_8 19 rfl rfl)
theorem dX5_isLine_209 : decode cX5_isLine 209 = .ok (.aload_n 0, 1) := dk_42 (dk_at dksX5_isLine_8 22 rfl rfl)
theorem dX5_isLine_210 : decode cX5_isLine 210 = .ok (.bipush 30, 2) := dk_16 30 (dk_at dksX5_isLine_9 0 rfl rfl)
theorem dX5_isLine_212 : decode cX5_isLine 212 = .ok (.bipush 10, 2) := dk_16 10 (dk_at dksX5_isLine_9 2 rfl rfl)
theorem dX5_isLine_214 : decode cX5_isLine 214 = .ok (.invokevirtual 272, 3) := dk_182 1 16 (dk_at dksX5_isLine_9 4 rfl rfl)
theorem dX5_isLine_217 : decode cX5_isLine 217 = .ok (.ifCond .eq 7, 3) := dk_153 0 7 (dk_at dksX5_isLine_9 7 rfl rfl)
theorem dX5_isLine_220 : decode cX5_isLine 220 = .ok (.iconst 1, 1) := dk_4 (dk_at dksX5_isLine_9 10 rfl rfl)
theorem dX5_isLine_221 : decode cX5_isLine 221 = .ok (.goto 4, 3) := dk_167 0 4 (dk_at dksX5_isLine_9 11 rfl rfl)
theorem dX5_isLine_224 : decode cX5_isLine 224 = .ok (.iconst 0, 1) := dk_3 (dk_at dksX5_isLine_9 14 rfl rfl)
theorem dX5_isLine_225 : decode cX5_isLine 225 = .ok (.ireturn, 1) := dk_172 (dk_at dksX5_isLine_9 15 rfl rfl)
abbrev mX5_isLine : sd_Y := (yX5_isLine, cX5_isLine, 3, some (.boolean), none)
def fX5_isLine (G : sd_G) (a0 : Nat) (a1 : Nat) : sd_M Int32 :=
  sd_bnd (sd_getR G 4 5 a0) fun v1 =>
  sd_bnd (sd_getI G 4 10 a0) fun v2 =>
  sd_bnd (sd_aldI G 0 v1 v2) fun v3 =>
  if v3 = 11 then (
    sd_bnd (sd_isC G 4 a0) fun _ =>
    sd_bnd (fX5_isOrder G a0 a1) fun r4 =>
    sd_retN .boolean r4)
  else (
    if v3 = 12 then (
      sd_bnd (sd_isC G 4 a0) fun _ =>
      sd_bnd (fX5_isOrder G a0 a1) fun r5 =>
      sd_retN .boolean r5)
    else (
      if v3 = 13 then (
        sd_bnd (sd_isC G 4 a0) fun _ =>
        sd_bnd (fX5_isOrder G a0 a1) fun r22 =>
        sd_retN .boolean r22)
      else (
        if v3 = 2 then (
          sd_bnd (sd_isC G 4 a0) fun _ =>
          sd_bnd (fX5_eat G a0 2) fun r16 =>
          if r16 = 0 then (
            sd_ret 0)
          else (
            sd_bnd (sd_isC G 4 a0) fun _ =>
            sd_bnd (fX5_eatAs G a0 30 3) fun r17 =>
            if r17 = 0 then (
              sd_ret 0)
            else (
              sd_bnd (sd_isC G 4 a0) fun _ =>
              sd_bnd (fX5_eat G a0 3) fun r18 =>
              if r18 = 0 then (
                sd_ret 0)
              else (
                sd_bnd (sd_isC G 4 a0) fun _ =>
                sd_bnd (fX5_eatAs G a0 31 4) fun r19 =>
                if r19 = 0 then (
                  sd_ret 0)
                else (
                  sd_bnd (sd_isC G 4 a0) fun _ =>
                  sd_bnd (fX5_eat G a0 4) fun r20 =>
                  if r20 = 0 then (
                    sd_ret 0)
                  else (
                    sd_bnd (sd_isC G 4 a0) fun _ =>
                    sd_bnd (fX5_eatAs G a0 31 5) fun r21 =>
                    if r21 = 0 then (
                      sd_ret 0)
                    else (
                      sd_ret 1)))))))
        else (
          if v3 = 7 then (
            sd_bnd (sd_isC G 4 a0) fun _ =>
            sd_bnd (fX5_eatAs G a0 7 0) fun r14 =>
            if r14 = 0 then (
              sd_ret 0)
            else (
              sd_bnd (sd_isC G 4 a0) fun _ =>
              sd_bnd (fX5_isPlace G a0) fun r15 =>
              if r15 = 0 then (
                sd_ret 0)
              else (
                sd_ret 1)))
          else (
            if v3 = 5 then (
              sd_bnd (sd_isC G 4 a0) fun _ =>
              sd_bnd (fX5_eatAs G a0 5 6) fun r10 =>
              if r10 = 0 then (
                sd_ret 0)
              else (
                sd_bnd (sd_isC G 4 a0) fun _ =>
                sd_bnd (fX5_isPlace G a0) fun r11 =>
                if r11 = 0 then (
                  sd_ret 0)
                else (
                  sd_bnd (sd_isC G 4 a0) fun _ =>
                  sd_bnd (fX5_eat G a0 9) fun r12 =>
                  if r12 = 0 then (
                    sd_ret 0)
                  else (
                    sd_bnd (sd_isC G 4 a0) fun _ =>
                    sd_bnd (fX5_eatAs G a0 31 9) fun r13 =>
                    if r13 = 0 then (
                      sd_ret 0)
                    else (
                      sd_ret 1)))))
            else (
              if v3 = 6 then (
                sd_bnd (sd_isC G 4 a0) fun _ =>
                sd_bnd (fX5_eatAs G a0 6 6) fun r6 =>
                if r6 = 0 then (
                  sd_ret 0)
                else (
                  sd_bnd (sd_isC G 4 a0) fun _ =>
                  sd_bnd (fX5_isPlace G a0) fun r7 =>
                  if r7 = 0 then (
                    sd_ret 0)
                  else (
                    sd_bnd (sd_isC G 4 a0) fun _ =>
                    sd_bnd (fX5_eat G a0 10) fun r8 =>
                    if r8 = 0 then (
                      sd_ret 0)
                    else (
                      sd_bnd (sd_isC G 4 a0) fun _ =>
                      sd_bnd (fX5_eatAs G a0 30 10) fun r9 =>
                      if r9 = 0 then (
                        sd_ret 0)
                      else (
                        sd_ret 1)))))
              else (
                sd_ret 0)))))))
set_option maxHeartbeats 4000000 in
theorem sX5_isLine (l : Launch) (G : sd_G) (a0 : Nat) (a1 : Nat) (h : sd_H) (ρ : Int32) (cT : Nat × Nat) (h2 : sd_H) (hf : fX5_isLine G a0 a1 h = some (ρ, cT, h2)) : sd_Met mX5_isLine ((l, G), (111, 4867), [.ref a0, .ref a1], (sd_oI ρ, h2), cT) h := by
  refine sd_entry (plainFor_of_name rfl) rfl (Nat.le_of_ble_eq_true rfl) ?_
  show sd_J mX5_isLine ((l, G), (111, 4867), [.ref a0, .ref a1], (sd_oI ρ, h2), cT) 0 [(0, .ref a0), (1, .ref a1)] [] h cT
  unfold fX5_isLine at hf
  refine sj_aload_n 0 dX5_isLine_0 rfl ?_
  refine sj_getR fdX5_24_4 hf dX5_isLine_1 (fun v1 hf => ?_)
  refine sj_aload_n 0 dX5_isLine_4 rfl ?_
  refine sj_getI fdX5_256_4 hf dX5_isLine_5 (fun v2 hf => ?_)
  refine sj_iald hf dX5_isLine_8 (fun v3 hf => ?_)
  refine sj_istore_n [(2, .int v3), (0, .ref a0), (1, .ref a1)] dX5_isLine_9 (by decide) rfl ?_
  refine sj_iload_n 0 dX5_isLine_10 rfl ?_
  refine sj_bipush (v := 11) dX5_isLine_11 (by decide) ?_
  refine sj_iceq 28 hf dX5_isLine_13 (by decide) (fun g13 hf => ?_) (fun g13 hf => ?_)
  · refine sj_aload_n 1 dX5_isLine_28 rfl ?_
    refine sj_aload_n 2 dX5_isLine_29 rfl ?_
    obtain ⟨fs30, he30, hf⟩ := sd_isC_some hf
    refine sj_cI (rest := []) (fun _ _ _ e => sj_runV (n := 1) (As := [.ref a1]) (rest := []) (sX5_isOrder l G a0 a1 h _ _ _ e) he30 rfl rfl rfl rfl q2989 q2991 qs54 q127 q2992 (by decide +kernel) rfl rfl ⟨Nat.le_of_ble_eq_true rfl, Nat.le_of_ble_eq_true rfl⟩ rfl (Nat.le_of_ble_eq_true rfl) dX5_isLine_30) hf (fun r4 h c hf => ?_)
    exact sj_zret hf rfl rfl dX5_isLine_33
  · refine sj_iload_n 0 dX5_isLine_16 rfl ?_
    refine sj_bipush (v := 12) dX5_isLine_17 (by decide) ?_
    refine sj_iceq 28 hf dX5_isLine_19 (by decide) (fun g19 hf => ?_) (fun g19 hf => ?_)
    · refine sj_aload_n 1 dX5_isLine_28 rfl ?_
      refine sj_aload_n 2 dX5_isLine_29 rfl ?_
      obtain ⟨fs30, he30, hf⟩ := sd_isC_some hf
      refine sj_cI (rest := []) (fun _ _ _ e => sj_runV (n := 1) (As := [.ref a1]) (rest := []) (sX5_isOrder l G a0 a1 h _ _ _ e) he30 rfl rfl rfl rfl q2989 q2991 qs54 q127 q2992 (by decide +kernel) rfl rfl ⟨Nat.le_of_ble_eq_true rfl, Nat.le_of_ble_eq_true rfl⟩ rfl (Nat.le_of_ble_eq_true rfl) dX5_isLine_30) hf (fun r5 h c hf => ?_)
      exact sj_zret hf rfl rfl dX5_isLine_33
    · refine sj_iload_n 0 dX5_isLine_22 rfl ?_
      refine sj_bipush (v := 13) dX5_isLine_23 (by decide) ?_
      refine sj_icne 34 hf dX5_isLine_25 (by decide) (fun g25 hf => ?_) (fun g25 hf => ?_)
      · refine sj_iload_n 0 dX5_isLine_34 rfl ?_
        refine sj_iconst (v := 2) dX5_isLine_35 (by decide) ?_
        refine sj_icne 99 hf dX5_isLine_36 (by decide) (fun g36 hf => ?_) (fun g36 hf => ?_)
        · refine sj_iload_n 0 dX5_isLine_99 rfl ?_
          refine sj_bipush (v := 7) dX5_isLine_100 (by decide) ?_
          refine sj_icne 128 hf dX5_isLine_102 (by decide) (fun g102 hf => ?_) (fun g102 hf => ?_)
          · refine sj_iload_n 0 dX5_isLine_128 rfl ?_
            refine sj_iconst (v := 5) dX5_isLine_129 (by decide) ?_
            refine sj_icne 176 hf dX5_isLine_130 (by decide) (fun g130 hf => ?_) (fun g130 hf => ?_)
            · refine sj_iload_n 0 dX5_isLine_176 rfl ?_
              refine sj_bipush (v := 6) dX5_isLine_177 (by decide) ?_
              refine sj_icne 224 hf dX5_isLine_179 (by decide) (fun g179 hf => ?_) (fun g179 hf => ?_)
              · refine sj_iconst (v := 0) dX5_isLine_224 (by decide) ?_
                exact sj_zretC (o := sd_oI) (ty := .boolean) rfl hf rfl rfl rfl dX5_isLine_225
              · refine sj_aload_n 1 dX5_isLine_182 rfl ?_
                refine sj_bipush (v := 6) dX5_isLine_183 (by decide) ?_
                refine sj_bipush (v := 6) dX5_isLine_185 (by decide) ?_
                obtain ⟨fs187, he187, hf⟩ := sd_isC_some hf
                refine sj_cI (rest := []) (fun _ _ _ e => sj_runV (n := 2) (As := [.int 6, .int 6]) (rest := []) (sX5_eatAs l G a0 6 6 h _ _ _ e) he187 rfl rfl rfl rfl q2981 q2983 qs52 q127 q2984 (by decide +kernel) rfl rfl ⟨Nat.le_of_ble_eq_true rfl, Nat.le_of_ble_eq_true rfl⟩ rfl (Nat.le_of_ble_eq_true rfl) dX5_isLine_187) hf (fun r6 h c hf => ?_)
                refine sj_ifeq 224 hf dX5_isLine_190 (by decide) (fun g190 hf => ?_) (fun g190 hf => ?_)
                · refine sj_iconst (v := 0) dX5_isLine_224 (by decide) ?_
                  exact sj_zretC (o := sd_oI) (ty := .boolean) rfl hf rfl rfl rfl dX5_isLine_225
                · refine sj_aload_n 1 dX5_isLine_193 rfl ?_
                  obtain ⟨fs194, he194, hf⟩ := sd_isC_some hf
                  refine sj_cI (rest := []) (fun _ _ _ e => sj_runV (n := 0) (As := []) (rest := []) (sX5_isPlace l G a0 h _ _ _ e) he194 rfl rfl rfl rfl q3050 q3052 qs69 q127 q3053 (by decide +kernel) rfl rfl ⟨Nat.le_of_ble_eq_true rfl, Nat.le_of_ble_eq_true rfl⟩ rfl (Nat.le_of_ble_eq_true rfl) dX5_isLine_194) hf (fun r7 h c hf => ?_)
                  refine sj_ifeq 224 hf dX5_isLine_197 (by decide) (fun g197 hf => ?_) (fun g197 hf => ?_)
                  · refine sj_iconst (v := 0) dX5_isLine_224 (by decide) ?_
                    exact sj_zretC (o := sd_oI) (ty := .boolean) rfl hf rfl rfl rfl dX5_isLine_225
                  · refine sj_aload_n 1 dX5_isLine_200 rfl ?_
                    refine sj_bipush (v := 10) dX5_isLine_201 (by decide) ?_
                    obtain ⟨fs203, he203, hf⟩ := sd_isC_some hf
                    refine sj_cI (rest := []) (fun _ _ _ e => sj_runV (n := 1) (As := [.int 10]) (rest := []) (sX5_eat l G a0 10 h _ _ _ e) he203 rfl rfl rfl rfl q2977 q2979 qs51 q127 q2980 (by decide +kernel) rfl rfl ⟨Nat.le_of_ble_eq_true rfl, Nat.le_of_ble_eq_true rfl⟩ rfl (Nat.le_of_ble_eq_true rfl) dX5_isLine_203) hf (fun r8 h c hf => ?_)
                    refine sj_ifeq 224 hf dX5_isLine_206 (by decide) (fun g206 hf => ?_) (fun g206 hf => ?_)
                    · refine sj_iconst (v := 0) dX5_isLine_224 (by decide) ?_
                      exact sj_zretC (o := sd_oI) (ty := .boolean) rfl hf rfl rfl rfl dX5_isLine_225
                    · refine sj_aload_n 1 dX5_isLine_209 rfl ?_
                      refine sj_bipush (v := 30) dX5_isLine_210 (by decide) ?_
                      refine sj_bipush (v := 10) dX5_isLine_212 (by decide) ?_
                      obtain ⟨fs214, he214, hf⟩ := sd_isC_some hf
                      refine sj_cI (rest := []) (fun _ _ _ e => sj_runV (n := 2) (As := [.int 30, .int 10]) (rest := []) (sX5_eatAs l G a0 30 10 h _ _ _ e) he214 rfl rfl rfl rfl q2981 q2983 qs52 q127 q2984 (by decide +kernel) rfl rfl ⟨Nat.le_of_ble_eq_true rfl, Nat.le_of_ble_eq_true rfl⟩ rfl (Nat.le_of_ble_eq_true rfl) dX5_isLine_214) hf (fun r9 h c hf => ?_)
                      refine sj_ifeq 224 hf dX5_isLine_217 (by decide) (fun g217 hf => ?_) (fun g217 hf => ?_)
                      · refine sj_iconst (v := 0) dX5_isLine_224 (by decide) ?_
                        exact sj_zretC (o := sd_oI) (ty := .boolean) rfl hf rfl rfl rfl dX5_isLine_225
                      · refine sj_iconst (v := 1) dX5_isLine_220 (by decide) ?_
                        refine sj_goto 225 dX5_isLine_221 (by decide) ?_
                        exact sj_zretC (o := sd_oI) (ty := .boolean) rfl hf rfl rfl rfl dX5_isLine_225
            · refine sj_aload_n 1 dX5_isLine_133 rfl ?_
              refine sj_iconst (v := 5) dX5_isLine_134 (by decide) ?_
              refine sj_bipush (v := 6) dX5_isLine_135 (by decide) ?_
              obtain ⟨fs137, he137, hf⟩ := sd_isC_some hf
              refine sj_cI (rest := []) (fun _ _ _ e => sj_runV (n := 2) (As := [.int 5, .int 6]) (rest := []) (sX5_eatAs l G a0 5 6 h _ _ _ e) he137 rfl rfl rfl rfl q2981 q2983 qs52 q127 q2984 (by decide +kernel) rfl rfl ⟨Nat.le_of_ble_eq_true rfl, Nat.le_of_ble_eq_true rfl⟩ rfl (Nat.le_of_ble_eq_true rfl) dX5_isLine_137) hf (fun r10 h c hf => ?_)
              refine sj_ifeq 174 hf dX5_isLine_140 (by decide) (fun g140 hf => ?_) (fun g140 hf => ?_)
              · refine sj_iconst (v := 0) dX5_isLine_174 (by decide) ?_
                exact sj_zretC (o := sd_oI) (ty := .boolean) rfl hf rfl rfl rfl dX5_isLine_175
              · refine sj_aload_n 1 dX5_isLine_143 rfl ?_
                obtain ⟨fs144, he144, hf⟩ := sd_isC_some hf
                refine sj_cI (rest := []) (fun _ _ _ e => sj_runV (n := 0) (As := []) (rest := []) (sX5_isPlace l G a0 h _ _ _ e) he144 rfl rfl rfl rfl q3050 q3052 qs69 q127 q3053 (by decide +kernel) rfl rfl ⟨Nat.le_of_ble_eq_true rfl, Nat.le_of_ble_eq_true rfl⟩ rfl (Nat.le_of_ble_eq_true rfl) dX5_isLine_144) hf (fun r11 h c hf => ?_)
                refine sj_ifeq 174 hf dX5_isLine_147 (by decide) (fun g147 hf => ?_) (fun g147 hf => ?_)
                · refine sj_iconst (v := 0) dX5_isLine_174 (by decide) ?_
                  exact sj_zretC (o := sd_oI) (ty := .boolean) rfl hf rfl rfl rfl dX5_isLine_175
                · refine sj_aload_n 1 dX5_isLine_150 rfl ?_
                  refine sj_bipush (v := 9) dX5_isLine_151 (by decide) ?_
                  obtain ⟨fs153, he153, hf⟩ := sd_isC_some hf
                  refine sj_cI (rest := []) (fun _ _ _ e => sj_runV (n := 1) (As := [.int 9]) (rest := []) (sX5_eat l G a0 9 h _ _ _ e) he153 rfl rfl rfl rfl q2977 q2979 qs51 q127 q2980 (by decide +kernel) rfl rfl ⟨Nat.le_of_ble_eq_true rfl, Nat.le_of_ble_eq_true rfl⟩ rfl (Nat.le_of_ble_eq_true rfl) dX5_isLine_153) hf (fun r12 h c hf => ?_)
                  refine sj_ifeq 174 hf dX5_isLine_156 (by decide) (fun g156 hf => ?_) (fun g156 hf => ?_)
                  · refine sj_iconst (v := 0) dX5_isLine_174 (by decide) ?_
                    exact sj_zretC (o := sd_oI) (ty := .boolean) rfl hf rfl rfl rfl dX5_isLine_175
                  · refine sj_aload_n 1 dX5_isLine_159 rfl ?_
                    refine sj_bipush (v := 31) dX5_isLine_160 (by decide) ?_
                    refine sj_bipush (v := 9) dX5_isLine_162 (by decide) ?_
                    obtain ⟨fs164, he164, hf⟩ := sd_isC_some hf
                    refine sj_cI (rest := []) (fun _ _ _ e => sj_runV (n := 2) (As := [.int 31, .int 9]) (rest := []) (sX5_eatAs l G a0 31 9 h _ _ _ e) he164 rfl rfl rfl rfl q2981 q2983 qs52 q127 q2984 (by decide +kernel) rfl rfl ⟨Nat.le_of_ble_eq_true rfl, Nat.le_of_ble_eq_true rfl⟩ rfl (Nat.le_of_ble_eq_true rfl) dX5_isLine_164) hf (fun r13 h c hf => ?_)
                    refine sj_ifeq 174 hf dX5_isLine_167 (by decide) (fun g167 hf => ?_) (fun g167 hf => ?_)
                    · refine sj_iconst (v := 0) dX5_isLine_174 (by decide) ?_
                      exact sj_zretC (o := sd_oI) (ty := .boolean) rfl hf rfl rfl rfl dX5_isLine_175
                    · refine sj_iconst (v := 1) dX5_isLine_170 (by decide) ?_
                      refine sj_goto 175 dX5_isLine_171 (by decide) ?_
                      exact sj_zretC (o := sd_oI) (ty := .boolean) rfl hf rfl rfl rfl dX5_isLine_175
          · refine sj_aload_n 1 dX5_isLine_105 rfl ?_
            refine sj_bipush (v := 7) dX5_isLine_106 (by decide) ?_
            refine sj_iconst (v := 0) dX5_isLine_108 (by decide) ?_
            obtain ⟨fs109, he109, hf⟩ := sd_isC_some hf
            refine sj_cI (rest := []) (fun _ _ _ e => sj_runV (n := 2) (As := [.int 7, .int 0]) (rest := []) (sX5_eatAs l G a0 7 0 h _ _ _ e) he109 rfl rfl rfl rfl q2981 q2983 qs52 q127 q2984 (by decide +kernel) rfl rfl ⟨Nat.le_of_ble_eq_true rfl, Nat.le_of_ble_eq_true rfl⟩ rfl (Nat.le_of_ble_eq_true rfl) dX5_isLine_109) hf (fun r14 h c hf => ?_)
            refine sj_ifeq 126 hf dX5_isLine_112 (by decide) (fun g112 hf => ?_) (fun g112 hf => ?_)
            · refine sj_iconst (v := 0) dX5_isLine_126 (by decide) ?_
              exact sj_zretC (o := sd_oI) (ty := .boolean) rfl hf rfl rfl rfl dX5_isLine_127
            · refine sj_aload_n 1 dX5_isLine_115 rfl ?_
              obtain ⟨fs116, he116, hf⟩ := sd_isC_some hf
              refine sj_cI (rest := []) (fun _ _ _ e => sj_runV (n := 0) (As := []) (rest := []) (sX5_isPlace l G a0 h _ _ _ e) he116 rfl rfl rfl rfl q3050 q3052 qs69 q127 q3053 (by decide +kernel) rfl rfl ⟨Nat.le_of_ble_eq_true rfl, Nat.le_of_ble_eq_true rfl⟩ rfl (Nat.le_of_ble_eq_true rfl) dX5_isLine_116) hf (fun r15 h c hf => ?_)
              refine sj_ifeq 126 hf dX5_isLine_119 (by decide) (fun g119 hf => ?_) (fun g119 hf => ?_)
              · refine sj_iconst (v := 0) dX5_isLine_126 (by decide) ?_
                exact sj_zretC (o := sd_oI) (ty := .boolean) rfl hf rfl rfl rfl dX5_isLine_127
              · refine sj_iconst (v := 1) dX5_isLine_122 (by decide) ?_
                refine sj_goto 127 dX5_isLine_123 (by decide) ?_
                exact sj_zretC (o := sd_oI) (ty := .boolean) rfl hf rfl rfl rfl dX5_isLine_127
        · refine sj_aload_n 1 dX5_isLine_39 rfl ?_
          refine sj_iconst (v := 2) dX5_isLine_40 (by decide) ?_
          obtain ⟨fs41, he41, hf⟩ := sd_isC_some hf
          refine sj_cI (rest := []) (fun _ _ _ e => sj_runV (n := 1) (As := [.int 2]) (rest := []) (sX5_eat l G a0 2 h _ _ _ e) he41 rfl rfl rfl rfl q2977 q2979 qs51 q127 q2980 (by decide +kernel) rfl rfl ⟨Nat.le_of_ble_eq_true rfl, Nat.le_of_ble_eq_true rfl⟩ rfl (Nat.le_of_ble_eq_true rfl) dX5_isLine_41) hf (fun r16 h c hf => ?_)
          refine sj_ifeq 97 hf dX5_isLine_44 (by decide) (fun g44 hf => ?_) (fun g44 hf => ?_)
          · refine sj_iconst (v := 0) dX5_isLine_97 (by decide) ?_
            exact sj_zretC (o := sd_oI) (ty := .boolean) rfl hf rfl rfl rfl dX5_isLine_98
          · refine sj_aload_n 1 dX5_isLine_47 rfl ?_
            refine sj_bipush (v := 30) dX5_isLine_48 (by decide) ?_
            refine sj_iconst (v := 3) dX5_isLine_50 (by decide) ?_
            obtain ⟨fs51, he51, hf⟩ := sd_isC_some hf
            refine sj_cI (rest := []) (fun _ _ _ e => sj_runV (n := 2) (As := [.int 30, .int 3]) (rest := []) (sX5_eatAs l G a0 30 3 h _ _ _ e) he51 rfl rfl rfl rfl q2981 q2983 qs52 q127 q2984 (by decide +kernel) rfl rfl ⟨Nat.le_of_ble_eq_true rfl, Nat.le_of_ble_eq_true rfl⟩ rfl (Nat.le_of_ble_eq_true rfl) dX5_isLine_51) hf (fun r17 h c hf => ?_)
            refine sj_ifeq 97 hf dX5_isLine_54 (by decide) (fun g54 hf => ?_) (fun g54 hf => ?_)
            · refine sj_iconst (v := 0) dX5_isLine_97 (by decide) ?_
              exact sj_zretC (o := sd_oI) (ty := .boolean) rfl hf rfl rfl rfl dX5_isLine_98
            · refine sj_aload_n 1 dX5_isLine_57 rfl ?_
              refine sj_iconst (v := 3) dX5_isLine_58 (by decide) ?_
              obtain ⟨fs59, he59, hf⟩ := sd_isC_some hf
              refine sj_cI (rest := []) (fun _ _ _ e => sj_runV (n := 1) (As := [.int 3]) (rest := []) (sX5_eat l G a0 3 h _ _ _ e) he59 rfl rfl rfl rfl q2977 q2979 qs51 q127 q2980 (by decide +kernel) rfl rfl ⟨Nat.le_of_ble_eq_true rfl, Nat.le_of_ble_eq_true rfl⟩ rfl (Nat.le_of_ble_eq_true rfl) dX5_isLine_59) hf (fun r18 h c hf => ?_)
              refine sj_ifeq 97 hf dX5_isLine_62 (by decide) (fun g62 hf => ?_) (fun g62 hf => ?_)
              · refine sj_iconst (v := 0) dX5_isLine_97 (by decide) ?_
                exact sj_zretC (o := sd_oI) (ty := .boolean) rfl hf rfl rfl rfl dX5_isLine_98
              · refine sj_aload_n 1 dX5_isLine_65 rfl ?_
                refine sj_bipush (v := 31) dX5_isLine_66 (by decide) ?_
                refine sj_iconst (v := 4) dX5_isLine_68 (by decide) ?_
                obtain ⟨fs69, he69, hf⟩ := sd_isC_some hf
                refine sj_cI (rest := []) (fun _ _ _ e => sj_runV (n := 2) (As := [.int 31, .int 4]) (rest := []) (sX5_eatAs l G a0 31 4 h _ _ _ e) he69 rfl rfl rfl rfl q2981 q2983 qs52 q127 q2984 (by decide +kernel) rfl rfl ⟨Nat.le_of_ble_eq_true rfl, Nat.le_of_ble_eq_true rfl⟩ rfl (Nat.le_of_ble_eq_true rfl) dX5_isLine_69) hf (fun r19 h c hf => ?_)
                refine sj_ifeq 97 hf dX5_isLine_72 (by decide) (fun g72 hf => ?_) (fun g72 hf => ?_)
                · refine sj_iconst (v := 0) dX5_isLine_97 (by decide) ?_
                  exact sj_zretC (o := sd_oI) (ty := .boolean) rfl hf rfl rfl rfl dX5_isLine_98
                · refine sj_aload_n 1 dX5_isLine_75 rfl ?_
                  refine sj_iconst (v := 4) dX5_isLine_76 (by decide) ?_
                  obtain ⟨fs77, he77, hf⟩ := sd_isC_some hf
                  refine sj_cI (rest := []) (fun _ _ _ e => sj_runV (n := 1) (As := [.int 4]) (rest := []) (sX5_eat l G a0 4 h _ _ _ e) he77 rfl rfl rfl rfl q2977 q2979 qs51 q127 q2980 (by decide +kernel) rfl rfl ⟨Nat.le_of_ble_eq_true rfl, Nat.le_of_ble_eq_true rfl⟩ rfl (Nat.le_of_ble_eq_true rfl) dX5_isLine_77) hf (fun r20 h c hf => ?_)
                  refine sj_ifeq 97 hf dX5_isLine_80 (by decide) (fun g80 hf => ?_) (fun g80 hf => ?_)
                  · refine sj_iconst (v := 0) dX5_isLine_97 (by decide) ?_
                    exact sj_zretC (o := sd_oI) (ty := .boolean) rfl hf rfl rfl rfl dX5_isLine_98
                  · refine sj_aload_n 1 dX5_isLine_83 rfl ?_
                    refine sj_bipush (v := 31) dX5_isLine_84 (by decide) ?_
                    refine sj_iconst (v := 5) dX5_isLine_86 (by decide) ?_
                    obtain ⟨fs87, he87, hf⟩ := sd_isC_some hf
                    refine sj_cI (rest := []) (fun _ _ _ e => sj_runV (n := 2) (As := [.int 31, .int 5]) (rest := []) (sX5_eatAs l G a0 31 5 h _ _ _ e) he87 rfl rfl rfl rfl q2981 q2983 qs52 q127 q2984 (by decide +kernel) rfl rfl ⟨Nat.le_of_ble_eq_true rfl, Nat.le_of_ble_eq_true rfl⟩ rfl (Nat.le_of_ble_eq_true rfl) dX5_isLine_87) hf (fun r21 h c hf => ?_)
                    refine sj_ifeq 97 hf dX5_isLine_90 (by decide) (fun g90 hf => ?_) (fun g90 hf => ?_)
                    · refine sj_iconst (v := 0) dX5_isLine_97 (by decide) ?_
                      exact sj_zretC (o := sd_oI) (ty := .boolean) rfl hf rfl rfl rfl dX5_isLine_98
                    · refine sj_iconst (v := 1) dX5_isLine_93 (by decide) ?_
                      refine sj_goto 98 dX5_isLine_94 (by decide) ?_
                      exact sj_zretC (o := sd_oI) (ty := .boolean) rfl hf rfl rfl rfl dX5_isLine_98
      · refine sj_aload_n 1 dX5_isLine_28 rfl ?_
        refine sj_aload_n 2 dX5_isLine_29 rfl ?_
        obtain ⟨fs30, he30, hf⟩ := sd_isC_some hf
        refine sj_cI (rest := []) (fun _ _ _ e => sj_runV (n := 1) (As := [.ref a1]) (rest := []) (sX5_isOrder l G a0 a1 h _ _ _ e) he30 rfl rfl rfl rfl q2989 q2991 qs54 q127 q2992 (by decide +kernel) rfl rfl ⟨Nat.le_of_ble_eq_true rfl, Nat.le_of_ble_eq_true rfl⟩ rfl (Nat.le_of_ble_eq_true rfl) dX5_isLine_30) hf (fun r22 h c hf => ?_)
        exact sj_zret hf rfl rfl dX5_isLine_33
/-! SofaDigModel.isBook(LSofaDigModel$Plan;)Z -/
abbrev cX5_isBook : ByteArray := prog_46_method_68_code
def yX5_isBook : MethodName := ⟨RX5, "isBook", "(LSofaDigModel$Plan;)Z"⟩
def dkwX5_isBook_3 : List UInt8 := [16, 59, 182, 1, 3, 154, 255, 228, 3, 172, 4, 172]
abbrev dktX5_isBook_3 : List UInt8 := dkwX5_isBook_3 ++ []
def dkwX5_isBook_2 : List UInt8 := [42, 180, 0, 24, 42, 180, 1, 0, 46, 16, 33, 159, 0, 22, 42, 43, 182, 1, 70, 153, 0, 12, 42]
abbrev dktX5_isBook_2 : List UInt8 := dkwX5_isBook_2 ++ dktX5_isBook_3
def dkwX5_isBook_1 : List UInt8 := [153, 0, 22, 42, 16, 31, 5, 182, 1, 16, 153, 0, 12, 42, 16, 59, 182, 1, 3, 154, 0, 5, 3, 172]
abbrev dktX5_isBook_1 : List UInt8 := dkwX5_isBook_1 ++ dktX5_isBook_2
def dkwX5_isBook_0 : List UInt8 := [42, 3, 182, 1, 3, 153, 0, 42, 42, 16, 31, 4, 182, 1, 16, 153, 0, 30, 42, 4, 182, 1, 3]
abbrev dktX5_isBook_0 : List UInt8 := dkwX5_isBook_0 ++ dktX5_isBook_1
theorem dksX5_isBook_0 : cX5_isBook.data.toList.drop 0 = dktX5_isBook_0 := by decide +kernel
theorem dksX5_isBook_1 : cX5_isBook.data.toList.drop 23 = dktX5_isBook_1 := dk_seg dksX5_isBook_0 23 rfl rfl
theorem dksX5_isBook_2 : cX5_isBook.data.toList.drop 47 = dktX5_isBook_2 := dk_seg dksX5_isBook_1 24 rfl rfl
theorem dksX5_isBook_3 : cX5_isBook.data.toList.drop 70 = dktX5_isBook_3 := dk_seg dksX5_isBook_2 23 rfl rfl
theorem dX5_isBook_0 : decode cX5_isBook 0 = .ok (.aload_n 0, 1) := dk_42 (dk_at dksX5_isBook_0 0 rfl rfl)
theorem dX5_isBook_1 : decode cX5_isBook 1 = .ok (.iconst 0, 1) := dk_3 (dk_at dksX5_isBook_0 1 rfl rfl)
theorem dX5_isBook_2 : decode cX5_isBook 2 = .ok (.invokevirtual 259, 3) := dk_182 1 3 (dk_at dksX5_isBook_0 2 rfl rfl)
theorem dX5_isBook_5 : decode cX5_isBook 5 = .ok (.ifCond .eq 42, 3) := dk_153 0 42 (dk_at dksX5_isBook_0 5 rfl rfl)
theorem dX5_isBook_8 : decode cX5_isBook 8 = .ok (.aload_n 0, 1) := dk_42 (dk_at dksX5_isBook_0 8 rfl rfl)
theorem dX5_isBook_9 : decode cX5_isBook 9 = .ok (.bipush 31, 2) := dk_16 31 (dk_at dksX5_isBook_0 9 rfl rfl)
theorem dX5_isBook_11 : decode cX5_isBook 11 = .ok (.iconst 1, 1) := dk_4 (dk_at dksX5_isBook_0 11 rfl rfl)
theorem dX5_isBook_12 : decode cX5_isBook 12 = .ok (.invokevirtual 272, 3) := dk_182 1 16 (dk_at dksX5_isBook_0 12 rfl rfl)
theorem dX5_isBook_15 : decode cX5_isBook 15 = .ok (.ifCond .eq 30, 3) := dk_153 0 30 (dk_at dksX5_isBook_0 15 rfl rfl)
theorem dX5_isBook_18 : decode cX5_isBook 18 = .ok (.aload_n 0, 1) := dk_42 (dk_at dksX5_isBook_0 18 rfl rfl)
theorem dX5_isBook_19 : decode cX5_isBook 19 = .ok (.iconst 1, 1) := dk_4 (dk_at dksX5_isBook_0 19 rfl rfl)
theorem dX5_isBook_20 : decode cX5_isBook 20 = .ok (.invokevirtual 259, 3) := dk_182 1 3 (dk_at dksX5_isBook_0 20 rfl rfl)
theorem dX5_isBook_23 : decode cX5_isBook 23 = .ok (.ifCond .eq 22, 3) := dk_153 0 22 (dk_at dksX5_isBook_1 0 rfl rfl)
theorem dX5_isBook_26 : decode cX5_isBook 26 = .ok (.aload_n 0, 1) := dk_42 (dk_at dksX5_isBook_1 3 rfl rfl)
theorem dX5_isBook_27 : decode cX5_isBook 27 = .ok (.bipush 31, 2) := dk_16 31 (dk_at dksX5_isBook_1 4 rfl rfl)
theorem dX5_isBook_29 : decode cX5_isBook 29 = .ok (.iconst 2, 1) := dk_5 (dk_at dksX5_isBook_1 6 rfl rfl)
theorem dX5_isBook_30 : decode cX5_isBook 30 = .ok (.invokevirtual 272, 3) := dk_182 1 16 (dk_at dksX5_isBook_1 7 rfl rfl)
theorem dX5_isBook_33 : decode cX5_isBook 33 = .ok (.ifCond .eq 12, 3) := dk_153 0 12 (dk_at dksX5_isBook_1 10 rfl rfl)
theorem dX5_isBook_36 : decode cX5_isBook 36 = .ok (.aload_n 0, 1) := dk_42 (dk_at dksX5_isBook_1 13 rfl rfl)
theorem dX5_isBook_37 : decode cX5_isBook 37 = .ok (.bipush 59, 2) := dk_16 59 (dk_at dksX5_isBook_1 14 rfl rfl)
theorem dX5_isBook_39 : decode cX5_isBook 39 = .ok (.invokevirtual 259, 3) := dk_182 1 3 (dk_at dksX5_isBook_1 16 rfl rfl)
theorem dX5_isBook_42 : decode cX5_isBook 42 = .ok (.ifCond .ne 5, 3) := dk_154 0 5 (dk_at dksX5_isBook_1 19 rfl rfl)
theorem dX5_isBook_45 : decode cX5_isBook 45 = .ok (.iconst 0, 1) := dk_3 (dk_at dksX5_isBook_1 22 rfl rfl)
theorem dX5_isBook_46 : decode cX5_isBook 46 = .ok (.ireturn, 1) := dk_172 (dk_at dksX5_isBook_1 23 rfl rfl)
theorem dX5_isBook_47 : decode cX5_isBook 47 = .ok (.aload_n 0, 1) := dk_42 (dk_at dksX5_isBook_2 0 rfl rfl)
theorem dX5_isBook_48 : decode cX5_isBook 48 = .ok (.getfield 24, 3) := dk_180 0 24 (dk_at dksX5_isBook_2 1 rfl rfl)
theorem dX5_isBook_51 : decode cX5_isBook 51 = .ok (.aload_n 0, 1) := dk_42 (dk_at dksX5_isBook_2 4 rfl rfl)
theorem dX5_isBook_52 : decode cX5_isBook 52 = .ok (.getfield 256, 3) := dk_180 1 0 (dk_at dksX5_isBook_2 5 rfl rfl)
theorem dX5_isBook_55 : decode cX5_isBook 55 = .ok (.iaload, 1) := dk_46 (dk_at dksX5_isBook_2 8 rfl rfl)
theorem dX5_isBook_56 : decode cX5_isBook 56 = .ok (.bipush 33, 2) := dk_16 33 (dk_at dksX5_isBook_2 9 rfl rfl)
theorem dX5_isBook_58 : decode cX5_isBook 58 = .ok (.if_icmp .eq 22, 3) := dk_159 0 22 (dk_at dksX5_isBook_2 11 rfl rfl)
theorem dX5_isBook_61 : decode cX5_isBook 61 = .ok (.aload_n 0, 1) := dk_42 (dk_at dksX5_isBook_2 14 rfl rfl)
theorem dX5_isBook_62 : decode cX5_isBook 62 = .ok (.aload_n 1, 1) := dk_43 (dk_at dksX5_isBook_2 15 rfl rfl)
theorem dX5_isBook_63 : decode cX5_isBook 63 = .ok (.invokevirtual 326, 3) := dk_182 1 70 (dk_at dksX5_isBook_2 16 rfl rfl)
theorem dX5_isBook_66 : decode cX5_isBook 66 = .ok (.ifCond .eq 12, 3) := dk_153 0 12 (dk_at dksX5_isBook_2 19 rfl rfl)
theorem dX5_isBook_69 : decode cX5_isBook 69 = .ok (.aload_n 0, 1) := dk_42 (dk_at dksX5_isBook_2 22 rfl rfl)
theorem dX5_isBook_70 : decode cX5_isBook 70 = .ok (.bipush 59, 2) := dk_16 59 (dk_at dksX5_isBook_3 0 rfl rfl)
theorem dX5_isBook_72 : decode cX5_isBook 72 = .ok (.invokevirtual 259, 3) := dk_182 1 3 (dk_at dksX5_isBook_3 2 rfl rfl)
theorem dX5_isBook_75 : decode cX5_isBook 75 = .ok (.ifCond .ne (-28), 3) := dk_154 255 228 (dk_at dksX5_isBook_3 5 rfl rfl)
theorem dX5_isBook_78 : decode cX5_isBook 78 = .ok (.iconst 0, 1) := dk_3 (dk_at dksX5_isBook_3 8 rfl rfl)
theorem dX5_isBook_79 : decode cX5_isBook 79 = .ok (.ireturn, 1) := dk_172 (dk_at dksX5_isBook_3 9 rfl rfl)
theorem dX5_isBook_80 : decode cX5_isBook 80 = .ok (.iconst 1, 1) := dk_4 (dk_at dksX5_isBook_3 10 rfl rfl)
theorem dX5_isBook_81 : decode cX5_isBook 81 = .ok (.ireturn, 1) := dk_172 (dk_at dksX5_isBook_3 11 rfl rfl)
abbrev mX5_isBook : sd_Y := (yX5_isBook, cX5_isBook, 2, some (.boolean), none)
def fX5_isBook_b47 (G : sd_G) (k47 : Nat × Nat → sd_M Int32) (w0 : Nat) (w1 : Nat) : sd_M Int32 :=
  sd_bnd (sd_getR G 4 5 w0) fun v2 =>
  sd_bnd (sd_getI G 4 10 w0) fun v3 =>
  sd_bnd (sd_aldI G 0 v2 v3) fun v4 =>
  if v4 = 33 then (
    sd_ret 1)
  else (
    sd_bnd (sd_isC G 4 w0) fun _ =>
    sd_bnd (fX5_isLine G w0 w1) fun r5 =>
    if r5 = 0 then (
      sd_ret 0)
    else (
      sd_bnd (sd_isC G 4 w0) fun _ =>
      sd_bnd (fX5_eat G w0 59) fun r6 =>
      if r6 = 0 then (
        sd_ret 0)
      else (
        k47 (w0, w1))))
set_option maxHeartbeats 4000000 in
theorem sX5_isBook_b47 (l : Launch) (G : sd_G) (a0 : Nat) (a1 : Nat) (ρ : Int32) (h2 : sd_H) (cT : Nat × Nat) (k47 : Nat × Nat → sd_M Int32) (Hk47 : ∀ (q : Nat × Nat) (h : sd_H) (c : Nat × Nat), k47 q h = some (ρ, c, h2) → sd_J mX5_isBook ((l, G), (112, 4889), [.ref a0, .ref a1], (sd_oI ρ, h2), cT) 47 [(0, .ref q.1), (1, .ref q.2)] [] h c) (w0 : Nat) (w1 : Nat) (h : sd_H) (c : Nat × Nat) (hf : fX5_isBook_b47 G k47 w0 w1 h = some (ρ, c, h2)) : sd_J mX5_isBook ((l, G), (112, 4889), [.ref a0, .ref a1], (sd_oI ρ, h2), cT) 47 [(0, .ref w0), (1, .ref w1)] [] h c := by
  unfold fX5_isBook_b47 at hf
  refine sj_aload_n 0 dX5_isBook_47 rfl ?_
  refine sj_getR fdX5_24_4 hf dX5_isBook_48 (fun v2 hf => ?_)
  refine sj_aload_n 0 dX5_isBook_51 rfl ?_
  refine sj_getI fdX5_256_4 hf dX5_isBook_52 (fun v3 hf => ?_)
  refine sj_iald hf dX5_isBook_55 (fun v4 hf => ?_)
  refine sj_bipush (v := 33) dX5_isBook_56 (by decide) ?_
  refine sj_iceq 80 hf dX5_isBook_58 (by decide) (fun g58 hf => ?_) (fun g58 hf => ?_)
  · refine sj_iconst (v := 1) dX5_isBook_80 (by decide) ?_
    exact sj_zretC (o := sd_oI) (ty := .boolean) rfl hf rfl rfl rfl dX5_isBook_81
  · refine sj_aload_n 0 dX5_isBook_61 rfl ?_
    refine sj_aload_n 1 dX5_isBook_62 rfl ?_
    obtain ⟨fs63, he63, hf⟩ := sd_isC_some hf
    refine sj_cI (rest := []) (fun _ _ _ e => sj_runV (n := 1) (As := [.ref w1]) (rest := []) (sX5_isLine l G w0 w1 h _ _ _ e) he63 rfl rfl rfl rfl q2985 q2987 qs53 q127 q2988 (by decide +kernel) rfl rfl ⟨Nat.le_of_ble_eq_true rfl, Nat.le_of_ble_eq_true rfl⟩ rfl (Nat.le_of_ble_eq_true rfl) dX5_isBook_63) hf (fun r5 h c hf => ?_)
    refine sj_ifeq 78 hf dX5_isBook_66 (by decide) (fun g66 hf => ?_) (fun g66 hf => ?_)
    · refine sj_iconst (v := 0) dX5_isBook_78 (by decide) ?_
      exact sj_zretC (o := sd_oI) (ty := .boolean) rfl hf rfl rfl rfl dX5_isBook_79
    · refine sj_aload_n 0 dX5_isBook_69 rfl ?_
      refine sj_bipush (v := 59) dX5_isBook_70 (by decide) ?_
      obtain ⟨fs72, he72, hf⟩ := sd_isC_some hf
      refine sj_cI (rest := []) (fun _ _ _ e => sj_runV (n := 1) (As := [.int 59]) (rest := []) (sX5_eat l G w0 59 h _ _ _ e) he72 rfl rfl rfl rfl q2977 q2979 qs51 q127 q2980 (by decide +kernel) rfl rfl ⟨Nat.le_of_ble_eq_true rfl, Nat.le_of_ble_eq_true rfl⟩ rfl (Nat.le_of_ble_eq_true rfl) dX5_isBook_72) hf (fun r6 h c hf => ?_)
      refine sj_ifne 47 hf dX5_isBook_75 (by decide) (fun g75 hf => ?_) (fun g75 hf => ?_)
      · exact sj_loc [0, 1] rfl (Hk47 (w0, w1) _ _ hf)
      · refine sj_iconst (v := 0) dX5_isBook_78 (by decide) ?_
        exact sj_zretC (o := sd_oI) (ty := .boolean) rfl hf rfl rfl rfl dX5_isBook_79
theorem sX5_isBook_b47_loop (l : Launch) (G : sd_G) (a0 : Nat) (a1 : Nat) (ρ : Int32) (h2 : sd_H) (cT : Nat × Nat) (n : Nat) : ∀ (q : Nat × Nat) (h : sd_H) (c : Nat × Nat), sd_loop (fun k s => fX5_isBook_b47 G k s.1 s.2) n q h = some (ρ, c, h2) → sd_J mX5_isBook ((l, G), (112, 4889), [.ref a0, .ref a1], (sd_oI ρ, h2), cT) 47 [(0, .ref q.1), (1, .ref q.2)] [] h c := by
  induction n with
  | zero => intro q h c hf; cases hf
  | succ n ih => intro q h c hf; exact sX5_isBook_b47 l G a0 a1 ρ h2 cT _ ih _ _ _ _ hf
def fX5_isBook (G : sd_G) (a0 : Nat) (a1 : Nat) : sd_M Int32 :=
  sd_bnd (sd_isC G 4 a0) fun _ =>
  sd_bnd (fX5_eat G a0 0) fun r1 =>
  if r1 = 0 then (
    sd_loop (fun k s => fX5_isBook_b47 G k s.1 s.2) sd_FU (a0, a1))
  else (
    sd_bnd (sd_isC G 4 a0) fun _ =>
    sd_bnd (fX5_eatAs G a0 31 1) fun r7 =>
    if r7 = 0 then (
      sd_ret 0)
    else (
      sd_bnd (sd_isC G 4 a0) fun _ =>
      sd_bnd (fX5_eat G a0 1) fun r8 =>
      if r8 = 0 then (
        sd_ret 0)
      else (
        sd_bnd (sd_isC G 4 a0) fun _ =>
        sd_bnd (fX5_eatAs G a0 31 2) fun r9 =>
        if r9 = 0 then (
          sd_ret 0)
        else (
          sd_bnd (sd_isC G 4 a0) fun _ =>
          sd_bnd (fX5_eat G a0 59) fun r10 =>
          if r10 = 0 then (
            sd_ret 0)
          else (
            sd_loop (fun k s => fX5_isBook_b47 G k s.1 s.2) sd_FU (a0, a1))))))
set_option maxHeartbeats 4000000 in
theorem sX5_isBook (l : Launch) (G : sd_G) (a0 : Nat) (a1 : Nat) (h : sd_H) (ρ : Int32) (cT : Nat × Nat) (h2 : sd_H) (hf : fX5_isBook G a0 a1 h = some (ρ, cT, h2)) : sd_Met mX5_isBook ((l, G), (112, 4889), [.ref a0, .ref a1], (sd_oI ρ, h2), cT) h := by
  refine sd_entry (plainFor_of_name rfl) rfl (Nat.le_of_ble_eq_true rfl) ?_
  show sd_J mX5_isBook ((l, G), (112, 4889), [.ref a0, .ref a1], (sd_oI ρ, h2), cT) 0 [(0, .ref a0), (1, .ref a1)] [] h cT
  unfold fX5_isBook at hf
  refine sj_aload_n 0 dX5_isBook_0 rfl ?_
  refine sj_iconst (v := 0) dX5_isBook_1 (by decide) ?_
  obtain ⟨fs2, he2, hf⟩ := sd_isC_some hf
  refine sj_cI (rest := []) (fun _ _ _ e => sj_runV (n := 1) (As := [.int 0]) (rest := []) (sX5_eat l G a0 0 h _ _ _ e) he2 rfl rfl rfl rfl q2977 q2979 qs51 q127 q2980 (by decide +kernel) rfl rfl ⟨Nat.le_of_ble_eq_true rfl, Nat.le_of_ble_eq_true rfl⟩ rfl (Nat.le_of_ble_eq_true rfl) dX5_isBook_2) hf (fun r1 h c hf => ?_)
  refine sj_ifeq 47 hf dX5_isBook_5 (by decide) (fun g5 hf => ?_) (fun g5 hf => ?_)
  · exact sj_loc [0, 1] rfl (sX5_isBook_b47_loop l G a0 a1 ρ h2 cT sd_FU (a0, a1) _ _ hf)
  · refine sj_aload_n 0 dX5_isBook_8 rfl ?_
    refine sj_bipush (v := 31) dX5_isBook_9 (by decide) ?_
    refine sj_iconst (v := 1) dX5_isBook_11 (by decide) ?_
    obtain ⟨fs12, he12, hf⟩ := sd_isC_some hf
    refine sj_cI (rest := []) (fun _ _ _ e => sj_runV (n := 2) (As := [.int 31, .int 1]) (rest := []) (sX5_eatAs l G a0 31 1 h _ _ _ e) he12 rfl rfl rfl rfl q2981 q2983 qs52 q127 q2984 (by decide +kernel) rfl rfl ⟨Nat.le_of_ble_eq_true rfl, Nat.le_of_ble_eq_true rfl⟩ rfl (Nat.le_of_ble_eq_true rfl) dX5_isBook_12) hf (fun r7 h c hf => ?_)
    refine sj_ifeq 45 hf dX5_isBook_15 (by decide) (fun g15 hf => ?_) (fun g15 hf => ?_)
    · refine sj_iconst (v := 0) dX5_isBook_45 (by decide) ?_
      exact sj_zretC (o := sd_oI) (ty := .boolean) rfl hf rfl rfl rfl dX5_isBook_46
    · refine sj_aload_n 0 dX5_isBook_18 rfl ?_
      refine sj_iconst (v := 1) dX5_isBook_19 (by decide) ?_
      obtain ⟨fs20, he20, hf⟩ := sd_isC_some hf
      refine sj_cI (rest := []) (fun _ _ _ e => sj_runV (n := 1) (As := [.int 1]) (rest := []) (sX5_eat l G a0 1 h _ _ _ e) he20 rfl rfl rfl rfl q2977 q2979 qs51 q127 q2980 (by decide +kernel) rfl rfl ⟨Nat.le_of_ble_eq_true rfl, Nat.le_of_ble_eq_true rfl⟩ rfl (Nat.le_of_ble_eq_true rfl) dX5_isBook_20) hf (fun r8 h c hf => ?_)
      refine sj_ifeq 45 hf dX5_isBook_23 (by decide) (fun g23 hf => ?_) (fun g23 hf => ?_)
      · refine sj_iconst (v := 0) dX5_isBook_45 (by decide) ?_
        exact sj_zretC (o := sd_oI) (ty := .boolean) rfl hf rfl rfl rfl dX5_isBook_46
      · refine sj_aload_n 0 dX5_isBook_26 rfl ?_
        refine sj_bipush (v := 31) dX5_isBook_27 (by decide) ?_
        refine sj_iconst (v := 2) dX5_isBook_29 (by decide) ?_
        obtain ⟨fs30, he30, hf⟩ := sd_isC_some hf
        refine sj_cI (rest := []) (fun _ _ _ e => sj_runV (n := 2) (As := [.int 31, .int 2]) (rest := []) (sX5_eatAs l G a0 31 2 h _ _ _ e) he30 rfl rfl rfl rfl q2981 q2983 qs52 q127 q2984 (by decide +kernel) rfl rfl ⟨Nat.le_of_ble_eq_true rfl, Nat.le_of_ble_eq_true rfl⟩ rfl (Nat.le_of_ble_eq_true rfl) dX5_isBook_30) hf (fun r9 h c hf => ?_)
        refine sj_ifeq 45 hf dX5_isBook_33 (by decide) (fun g33 hf => ?_) (fun g33 hf => ?_)
        · refine sj_iconst (v := 0) dX5_isBook_45 (by decide) ?_
          exact sj_zretC (o := sd_oI) (ty := .boolean) rfl hf rfl rfl rfl dX5_isBook_46
        · refine sj_aload_n 0 dX5_isBook_36 rfl ?_
          refine sj_bipush (v := 59) dX5_isBook_37 (by decide) ?_
          obtain ⟨fs39, he39, hf⟩ := sd_isC_some hf
          refine sj_cI (rest := []) (fun _ _ _ e => sj_runV (n := 1) (As := [.int 59]) (rest := []) (sX5_eat l G a0 59 h _ _ _ e) he39 rfl rfl rfl rfl q2977 q2979 qs51 q127 q2980 (by decide +kernel) rfl rfl ⟨Nat.le_of_ble_eq_true rfl, Nat.le_of_ble_eq_true rfl⟩ rfl (Nat.le_of_ble_eq_true rfl) dX5_isBook_39) hf (fun r10 h c hf => ?_)
          refine sj_ifne 47 hf dX5_isBook_42 (by decide) (fun g42 hf => ?_) (fun g42 hf => ?_)
          · exact sj_loc [0, 1] rfl (sX5_isBook_b47_loop l G a0 a1 ρ h2 cT sd_FU (a0, a1) _ _ hf)
          · refine sj_iconst (v := 0) dX5_isBook_45 (by decide) ?_
            exact sj_zretC (o := sd_oI) (ty := .boolean) rfl hf rfl rfl rfl dX5_isBook_46
/-! SofaDigModel.itsSeats(LSofaDigModel$Plan;J)I -/
abbrev cX5_itsSeats : ByteArray := prog_46_method_78_code
def yX5_itsSeats : MethodName := ⟨RX5, "itsSeats", "(LSofaDigModel$Plan;J)I"⟩
def dkwX5_itsSeats_1 : List UInt8 := [3, 172]
abbrev dktX5_itsSeats_1 : List UInt8 := dkwX5_itsSeats_1 ++ []
def dkwX5_itsSeats_0 : List UInt8 := [32, 20, 1, 88, 148, 155, 0, 11, 32, 20, 1, 90, 148, 158, 0, 5, 8, 172, 43, 32, 136, 181, 0, 52]
abbrev dktX5_itsSeats_0 : List UInt8 := dkwX5_itsSeats_0 ++ dktX5_itsSeats_1
theorem dksX5_itsSeats_0 : cX5_itsSeats.data.toList.drop 0 = dktX5_itsSeats_0 := by decide +kernel
theorem dksX5_itsSeats_1 : cX5_itsSeats.data.toList.drop 24 = dktX5_itsSeats_1 := dk_seg dksX5_itsSeats_0 24 rfl rfl
theorem dX5_itsSeats_0 : decode cX5_itsSeats 0 = .ok (.lload_n 2, 1) := dk_32 (dk_at dksX5_itsSeats_0 0 rfl rfl)
theorem dX5_itsSeats_1 : decode cX5_itsSeats 1 = .ok (.ldc2_w 344, 3) := dk_20 1 88 (dk_at dksX5_itsSeats_0 1 rfl rfl)
theorem dX5_itsSeats_4 : decode cX5_itsSeats 4 = .ok (.lcmp, 1) := dk_148 (dk_at dksX5_itsSeats_0 4 rfl rfl)
theorem dX5_itsSeats_5 : decode cX5_itsSeats 5 = .ok (.ifCond .lt 11, 3) := dk_155 0 11 (dk_at dksX5_itsSeats_0 5 rfl rfl)
theorem dX5_itsSeats_8 : decode cX5_itsSeats 8 = .ok (.lload_n 2, 1) := dk_32 (dk_at dksX5_itsSeats_0 8 rfl rfl)
theorem dX5_itsSeats_9 : decode cX5_itsSeats 9 = .ok (.ldc2_w 346, 3) := dk_20 1 90 (dk_at dksX5_itsSeats_0 9 rfl rfl)
theorem dX5_itsSeats_12 : decode cX5_itsSeats 12 = .ok (.lcmp, 1) := dk_148 (dk_at dksX5_itsSeats_0 12 rfl rfl)
theorem dX5_itsSeats_13 : decode cX5_itsSeats 13 = .ok (.ifCond .le 5, 3) := dk_158 0 5 (dk_at dksX5_itsSeats_0 13 rfl rfl)
theorem dX5_itsSeats_16 : decode cX5_itsSeats 16 = .ok (.iconst 5, 1) := dk_8 (dk_at dksX5_itsSeats_0 16 rfl rfl)
theorem dX5_itsSeats_17 : decode cX5_itsSeats 17 = .ok (.ireturn, 1) := dk_172 (dk_at dksX5_itsSeats_0 17 rfl rfl)
theorem dX5_itsSeats_18 : decode cX5_itsSeats 18 = .ok (.aload_n 1, 1) := dk_43 (dk_at dksX5_itsSeats_0 18 rfl rfl)
theorem dX5_itsSeats_19 : decode cX5_itsSeats 19 = .ok (.lload_n 2, 1) := dk_32 (dk_at dksX5_itsSeats_0 19 rfl rfl)
theorem dX5_itsSeats_20 : decode cX5_itsSeats 20 = .ok (.l2i, 1) := dk_136 (dk_at dksX5_itsSeats_0 20 rfl rfl)
theorem dX5_itsSeats_21 : decode cX5_itsSeats 21 = .ok (.putfield 52, 3) := dk_181 0 52 (dk_at dksX5_itsSeats_0 21 rfl rfl)
theorem dX5_itsSeats_24 : decode cX5_itsSeats 24 = .ok (.iconst 0, 1) := dk_3 (dk_at dksX5_itsSeats_1 0 rfl rfl)
theorem dX5_itsSeats_25 : decode cX5_itsSeats 25 = .ok (.ireturn, 1) := dk_172 (dk_at dksX5_itsSeats_1 1 rfl rfl)
theorem fpX5_52_5 (n d : String) : sd_Fp ⟨"SofaDigModel", n, d⟩ 52 5 0 .int := ⟨(RX6, TX6, 19), "SofaDigModel$Plan", tyX6, rfl, by decide, rfl, in_X6, Or.inl rfl, tyX6_ok, nmX6, rfl, Or.inl ⟨rfl, Or.inr ⟨_, q2772⟩⟩⟩
abbrev mX5_itsSeats : sd_Y := (yX5_itsSeats, cX5_itsSeats, 4, some (.int), none)
def fX5_itsSeats (G : sd_G) (a0 : Nat) (a1 : Nat) (a2 : Int64) : sd_M Int32 :=
  if (lg_cmp a2 2) < 0 then (
    sd_ret 5)
  else (
    if (lg_cmp a2 8) ≤ 0 then (
      sd_bnd (sd_put 5 0 .int a1 (.int (a2.toInt32))) fun _ =>
      sd_ret 0)
    else (
      sd_ret 5))
set_option maxHeartbeats 4000000 in
theorem sX5_itsSeats (l : Launch) (G : sd_G) (a0 : Nat) (a1 : Nat) (a2 : Int64) (h : sd_H) (ρ : Int32) (cT : Nat × Nat) (h2 : sd_H) (hf : fX5_itsSeats G a0 a1 a2 h = some (ρ, cT, h2)) : sd_Met mX5_itsSeats ((l, G), (0, 0), [.ref a0, .ref a1, .long a2], (sd_oI ρ, h2), cT) h := by
  refine sd_entry (plainFor_of_name rfl) rfl (Nat.le_of_ble_eq_true rfl) ?_
  show sd_J mX5_itsSeats ((l, G), (0, 0), [.ref a0, .ref a1, .long a2], (sd_oI ρ, h2), cT) 0 [(0, .ref a0), (1, .ref a1), (2, .long a2)] [] h cT
  unfold fX5_itsSeats at hf
  refine sj_lload_n 2 dX5_itsSeats_0 rfl ?_
  refine sj_ldc2 q3062 dX5_itsSeats_1 ?_
  refine sj_lcmp dX5_itsSeats_4 ?_
  refine sj_iflt 16 hf dX5_itsSeats_5 (by decide) (fun g5 hf => ?_) (fun g5 hf => ?_)
  · refine sj_iconst (v := 5) dX5_itsSeats_16 (by decide) ?_
    exact sj_iret (o := sd_oI) hf rfl rfl rfl dX5_itsSeats_17
  · refine sj_lload_n 2 dX5_itsSeats_8 rfl ?_
    refine sj_ldc2 q3063 dX5_itsSeats_9 ?_
    refine sj_lcmp dX5_itsSeats_12 ?_
    refine sj_ifle 18 hf dX5_itsSeats_13 (by decide) (fun g13 hf => ?_) (fun g13 hf => ?_)
    · refine sj_aload_n 1 dX5_itsSeats_18 rfl ?_
      refine sj_lload_n 2 dX5_itsSeats_19 rfl ?_
      refine sj_l2i dX5_itsSeats_20 ?_
      refine sj_put (fpX5_52_5 _ _) hf dX5_itsSeats_21 (fun h hf => ?_)
      refine sj_iconst (v := 0) dX5_itsSeats_24 (by decide) ?_
      exact sj_iret (o := sd_oI) hf rfl rfl rfl dX5_itsSeats_25
    · refine sj_iconst (v := 5) dX5_itsSeats_16 (by decide) ?_
      exact sj_iret (o := sd_oI) hf rfl rfl rfl dX5_itsSeats_17
/-! SofaDigModel.itsLayers(LSofaDigModel$Plan;J)I -/
abbrev cX5_itsLayers : ByteArray := prog_46_method_79_code
def yX5_itsLayers : MethodName := ⟨RX5, "itsLayers", "(LSofaDigModel$Plan;J)I"⟩
def dkwX5_itsLayers_1 : List UInt8 := [3, 172]
abbrev dktX5_itsLayers_1 : List UInt8 := dkwX5_itsLayers_1 ++ []
def dkwX5_itsLayers_0 : List UInt8 := [32, 20, 1, 88, 148, 155, 0, 11, 32, 20, 1, 92, 148, 158, 0, 5, 8, 172, 43, 32, 136, 181, 0, 55]
abbrev dktX5_itsLayers_0 : List UInt8 := dkwX5_itsLayers_0 ++ dktX5_itsLayers_1
theorem dksX5_itsLayers_0 : cX5_itsLayers.data.toList.drop 0 = dktX5_itsLayers_0 := by decide +kernel
theorem dksX5_itsLayers_1 : cX5_itsLayers.data.toList.drop 24 = dktX5_itsLayers_1 := dk_seg dksX5_itsLayers_0 24 rfl rfl
theorem dX5_itsLayers_0 : decode cX5_itsLayers 0 = .ok (.lload_n 2, 1) := dk_32 (dk_at dksX5_itsLayers_0 0 rfl rfl)
theorem dX5_itsLayers_1 : decode cX5_itsLayers 1 = .ok (.ldc2_w 344, 3) := dk_20 1 88 (dk_at dksX5_itsLayers_0 1 rfl rfl)
theorem dX5_itsLayers_4 : decode cX5_itsLayers 4 = .ok (.lcmp, 1) := dk_148 (dk_at dksX5_itsLayers_0 4 rfl rfl)
theorem dX5_itsLayers_5 : decode cX5_itsLayers 5 = .ok (.ifCond .lt 11, 3) := dk_155 0 11 (dk_at dksX5_itsLayers_0 5 rfl rfl)
theorem dX5_itsLayers_8 : decode cX5_itsLayers 8 = .ok (.lload_n 2, 1) := dk_32 (dk_at dksX5_itsLayers_0 8 rfl rfl)
theorem dX5_itsLayers_9 : decode cX5_itsLayers 9 = .ok (.ldc2_w 348, 3) := dk_20 1 92 (dk_at dksX5_itsLayers_0 9 rfl rfl)
theorem dX5_itsLayers_12 : decode cX5_itsLayers 12 = .ok (.lcmp, 1) := dk_148 (dk_at dksX5_itsLayers_0 12 rfl rfl)
theorem dX5_itsLayers_13 : decode cX5_itsLayers 13 = .ok (.ifCond .le 5, 3) := dk_158 0 5 (dk_at dksX5_itsLayers_0 13 rfl rfl)
theorem dX5_itsLayers_16 : decode cX5_itsLayers 16 = .ok (.iconst 5, 1) := dk_8 (dk_at dksX5_itsLayers_0 16 rfl rfl)
theorem dX5_itsLayers_17 : decode cX5_itsLayers 17 = .ok (.ireturn, 1) := dk_172 (dk_at dksX5_itsLayers_0 17 rfl rfl)
theorem dX5_itsLayers_18 : decode cX5_itsLayers 18 = .ok (.aload_n 1, 1) := dk_43 (dk_at dksX5_itsLayers_0 18 rfl rfl)
theorem dX5_itsLayers_19 : decode cX5_itsLayers 19 = .ok (.lload_n 2, 1) := dk_32 (dk_at dksX5_itsLayers_0 19 rfl rfl)
theorem dX5_itsLayers_20 : decode cX5_itsLayers 20 = .ok (.l2i, 1) := dk_136 (dk_at dksX5_itsLayers_0 20 rfl rfl)
theorem dX5_itsLayers_21 : decode cX5_itsLayers 21 = .ok (.putfield 55, 3) := dk_181 0 55 (dk_at dksX5_itsLayers_0 21 rfl rfl)
theorem dX5_itsLayers_24 : decode cX5_itsLayers 24 = .ok (.iconst 0, 1) := dk_3 (dk_at dksX5_itsLayers_1 0 rfl rfl)
theorem dX5_itsLayers_25 : decode cX5_itsLayers 25 = .ok (.ireturn, 1) := dk_172 (dk_at dksX5_itsLayers_1 1 rfl rfl)
theorem fpX5_55_5 (n d : String) : sd_Fp ⟨"SofaDigModel", n, d⟩ 55 5 1 .int := ⟨(RX6, TX6, 19), "SofaDigModel$Plan", tyX6, rfl, by decide, rfl, in_X6, Or.inl rfl, tyX6_ok, nmX6, rfl, Or.inl ⟨rfl, Or.inr ⟨_, q2774⟩⟩⟩
abbrev mX5_itsLayers : sd_Y := (yX5_itsLayers, cX5_itsLayers, 4, some (.int), none)
def fX5_itsLayers (G : sd_G) (a0 : Nat) (a1 : Nat) (a2 : Int64) : sd_M Int32 :=
  if (lg_cmp a2 2) < 0 then (
    sd_ret 5)
  else (
    if (lg_cmp a2 10) ≤ 0 then (
      sd_bnd (sd_put 5 1 .int a1 (.int (a2.toInt32))) fun _ =>
      sd_ret 0)
    else (
      sd_ret 5))
set_option maxHeartbeats 4000000 in
theorem sX5_itsLayers (l : Launch) (G : sd_G) (a0 : Nat) (a1 : Nat) (a2 : Int64) (h : sd_H) (ρ : Int32) (cT : Nat × Nat) (h2 : sd_H) (hf : fX5_itsLayers G a0 a1 a2 h = some (ρ, cT, h2)) : sd_Met mX5_itsLayers ((l, G), (0, 0), [.ref a0, .ref a1, .long a2], (sd_oI ρ, h2), cT) h := by
  refine sd_entry (plainFor_of_name rfl) rfl (Nat.le_of_ble_eq_true rfl) ?_
  show sd_J mX5_itsLayers ((l, G), (0, 0), [.ref a0, .ref a1, .long a2], (sd_oI ρ, h2), cT) 0 [(0, .ref a0), (1, .ref a1), (2, .long a2)] [] h cT
  unfold fX5_itsLayers at hf
  refine sj_lload_n 2 dX5_itsLayers_0 rfl ?_
  refine sj_ldc2 q3062 dX5_itsLayers_1 ?_
  refine sj_lcmp dX5_itsLayers_4 ?_
  refine sj_iflt 16 hf dX5_itsLayers_5 (by decide) (fun g5 hf => ?_) (fun g5 hf => ?_)
  · refine sj_iconst (v := 5) dX5_itsLayers_16 (by decide) ?_
    exact sj_iret (o := sd_oI) hf rfl rfl rfl dX5_itsLayers_17
  · refine sj_lload_n 2 dX5_itsLayers_8 rfl ?_
    refine sj_ldc2 q3068 dX5_itsLayers_9 ?_
    refine sj_lcmp dX5_itsLayers_12 ?_
    refine sj_ifle 18 hf dX5_itsLayers_13 (by decide) (fun g13 hf => ?_) (fun g13 hf => ?_)
    · refine sj_aload_n 1 dX5_itsLayers_18 rfl ?_
      refine sj_lload_n 2 dX5_itsLayers_19 rfl ?_
      refine sj_l2i dX5_itsLayers_20 ?_
      refine sj_put (fpX5_55_5 _ _) hf dX5_itsLayers_21 (fun h hf => ?_)
      refine sj_iconst (v := 0) dX5_itsLayers_24 (by decide) ?_
      exact sj_iret (o := sd_oI) hf rfl rfl rfl dX5_itsLayers_25
    · refine sj_iconst (v := 5) dX5_itsLayers_16 (by decide) ?_
      exact sj_iret (o := sd_oI) hf rfl rfl rfl dX5_itsLayers_17
/-! SofaDigModel.find(LSofaDigModel$Plan;J)I -/
abbrev cX5_find : ByteArray := prog_46_method_69_code
def yX5_find : MethodName := ⟨RX5, "find", "(LSofaDigModel$Plan;J)I"⟩
def dkwX5_find_1 : List UInt8 := [132, 3, 1, 167, 255, 232, 2, 172]
abbrev dktX5_find_1 : List UInt8 := dkwX5_find_1 ++ []
def dkwX5_find_0 : List UInt8 := [3, 62, 29, 42, 180, 0, 137, 162, 0, 22, 42, 180, 1, 73, 29, 47, 31, 148, 154, 0, 5, 29, 172]
abbrev dktX5_find_0 : List UInt8 := dkwX5_find_0 ++ dktX5_find_1
theorem dksX5_find_0 : cX5_find.data.toList.drop 0 = dktX5_find_0 := by decide +kernel
theorem dksX5_find_1 : cX5_find.data.toList.drop 23 = dktX5_find_1 := dk_seg dksX5_find_0 23 rfl rfl
theorem dX5_find_0 : decode cX5_find 0 = .ok (.iconst 0, 1) := dk_3 (dk_at dksX5_find_0 0 rfl rfl)
theorem dX5_find_1 : decode cX5_find 1 = .ok (.istore_n 3, 1) := dk_62 (dk_at dksX5_find_0 1 rfl rfl)
theorem dX5_find_2 : decode cX5_find 2 = .ok (.iload_n 3, 1) := dk_29 (dk_at dksX5_find_0 2 rfl rfl)
theorem dX5_find_3 : decode cX5_find 3 = .ok (.aload_n 0, 1) := dk_42 (dk_at dksX5_find_0 3 rfl rfl)
theorem dX5_find_4 : decode cX5_find 4 = .ok (.getfield 137, 3) := dk_180 0 137 (dk_at dksX5_find_0 4 rfl rfl)
theorem dX5_find_7 : decode cX5_find 7 = .ok (.if_icmp .ge 22, 3) := dk_162 0 22 (dk_at dksX5_find_0 7 rfl rfl)
theorem dX5_find_10 : decode cX5_find 10 = .ok (.aload_n 0, 1) := dk_42 (dk_at dksX5_find_0 10 rfl rfl)
theorem dX5_find_11 : decode cX5_find 11 = .ok (.getfield 329, 3) := dk_180 1 73 (dk_at dksX5_find_0 11 rfl rfl)
theorem dX5_find_14 : decode cX5_find 14 = .ok (.iload_n 3, 1) := dk_29 (dk_at dksX5_find_0 14 rfl rfl)
theorem dX5_find_15 : decode cX5_find 15 = .ok (.laload, 1) := dk_47 (dk_at dksX5_find_0 15 rfl rfl)
theorem dX5_find_16 : decode cX5_find 16 = .ok (.lload_n 1, 1) := dk_31 (dk_at dksX5_find_0 16 rfl rfl)
theorem dX5_find_17 : decode cX5_find 17 = .ok (.lcmp, 1) := dk_148 (dk_at dksX5_find_0 17 rfl rfl)
theorem dX5_find_18 : decode cX5_find 18 = .ok (.ifCond .ne 5, 3) := dk_154 0 5 (dk_at dksX5_find_0 18 rfl rfl)
theorem dX5_find_21 : decode cX5_find 21 = .ok (.iload_n 3, 1) := dk_29 (dk_at dksX5_find_0 21 rfl rfl)
theorem dX5_find_22 : decode cX5_find 22 = .ok (.ireturn, 1) := dk_172 (dk_at dksX5_find_0 22 rfl rfl)
theorem dX5_find_23 : decode cX5_find 23 = .ok (.iinc 3 1, 3) := dk_132 3 1 (dk_at dksX5_find_1 0 rfl rfl)
theorem dX5_find_26 : decode cX5_find 26 = .ok (.goto (-24), 3) := dk_167 255 232 (dk_at dksX5_find_1 3 rfl rfl)
theorem dX5_find_29 : decode cX5_find 29 = .ok (.iconst (-1), 1) := dk_2 (dk_at dksX5_find_1 6 rfl rfl)
theorem dX5_find_30 : decode cX5_find 30 = .ok (.ireturn, 1) := dk_172 (dk_at dksX5_find_1 7 rfl rfl)
theorem fdX5_137_5 : sd_Fd "SofaDigModel" 137 5 2 := ⟨(RX6, TX6, 19), "SofaDigModel$Plan", rfl, by decide, rfl, in_X6, Or.inl rfl, Or.inr ⟨_, q2775⟩⟩
theorem fdX5_329_5 : sd_Fd "SofaDigModel" 329 5 3 := ⟨(RX6, TX6, 19), "SofaDigModel$Plan", rfl, by decide, rfl, in_X6, Or.inl rfl, Or.inr ⟨_, q2777⟩⟩
abbrev mX5_find : sd_Y := (yX5_find, cX5_find, 4, some (.int), none)
def fX5_find_b2 (G : sd_G) (k2 : Nat × Int64 × Int32 → sd_M Int32) (w0 : Nat) (w1 : Int64) (w3 : Int32) : sd_M Int32 :=
  sd_bnd (sd_getI G 5 2 w0) fun v1 =>
  if v1 ≤ w3 then (
    sd_ret (-1))
  else (
    sd_bnd (sd_getR G 5 3 w0) fun v2 =>
    sd_bnd (sd_aldL G v2 w3) fun v3 =>
    if (lg_cmp v3 w1) = 0 then (
      sd_ret w3)
    else (
      sd_bnd (sd_ret (w3 + 1)) fun x4 =>
      k2 (w0, w1, x4)))
set_option maxHeartbeats 4000000 in
theorem sX5_find_b2 (l : Launch) (G : sd_G) (a1 : Nat) (a2 : Int64) (ρ : Int32) (h2 : sd_H) (cT : Nat × Nat) (k2 : Nat × Int64 × Int32 → sd_M Int32) (Hk2 : ∀ (q : Nat × Int64 × Int32) (h : sd_H) (c : Nat × Nat), k2 q h = some (ρ, c, h2) → sd_J mX5_find ((l, G), (0, 0), [.ref a1, .long a2], (sd_oI ρ, h2), cT) 2 [(0, .ref q.1), (1, .long q.2.1), (3, .int q.2.2)] [] h c) (w0 : Nat) (w1 : Int64) (w3 : Int32) (h : sd_H) (c : Nat × Nat) (hf : fX5_find_b2 G k2 w0 w1 w3 h = some (ρ, c, h2)) : sd_J mX5_find ((l, G), (0, 0), [.ref a1, .long a2], (sd_oI ρ, h2), cT) 2 [(0, .ref w0), (1, .long w1), (3, .int w3)] [] h c := by
  unfold fX5_find_b2 at hf
  refine sj_iload_n 2 dX5_find_2 rfl ?_
  refine sj_aload_n 0 dX5_find_3 rfl ?_
  refine sj_getI fdX5_137_5 hf dX5_find_4 (fun v1 hf => ?_)
  refine sj_icge 29 hf dX5_find_7 (by decide) (fun g7 hf => ?_) (fun g7 hf => ?_)
  · refine sj_iconst (v := (-1)) dX5_find_29 (by decide) ?_
    exact sj_iret (o := sd_oI) hf rfl rfl rfl dX5_find_30
  · refine sj_aload_n 0 dX5_find_10 rfl ?_
    refine sj_getR fdX5_329_5 hf dX5_find_11 (fun v2 hf => ?_)
    refine sj_iload_n 2 dX5_find_14 rfl ?_
    refine sj_lald hf dX5_find_15 (fun v3 hf => ?_)
    refine sj_lload_n 1 dX5_find_16 rfl ?_
    refine sj_lcmp dX5_find_17 ?_
    refine sj_ifne 23 hf dX5_find_18 (by decide) (fun g18 hf => ?_) (fun g18 hf => ?_)
    · refine sj_iincN 2 (fun x4 => [(3, .int x4), (0, .ref w0), (1, .long w1)]) 1 hf dX5_find_23 rfl (by decide) (by decide) (fun _ => rfl) (fun x4 hf => ?_)
      refine sj_goto 2 dX5_find_26 (by decide) ?_
      exact sj_loc [1, 2, 0] rfl (Hk2 (w0, w1, x4) _ _ hf)
    · refine sj_iload_n 2 dX5_find_21 rfl ?_
      exact sj_iret (o := sd_oI) hf rfl rfl rfl dX5_find_22
theorem sX5_find_b2_loop (l : Launch) (G : sd_G) (a1 : Nat) (a2 : Int64) (ρ : Int32) (h2 : sd_H) (cT : Nat × Nat) (n : Nat) : ∀ (q : Nat × Int64 × Int32) (h : sd_H) (c : Nat × Nat), sd_loop (fun k s => fX5_find_b2 G k s.1 s.2.1 s.2.2) n q h = some (ρ, c, h2) → sd_J mX5_find ((l, G), (0, 0), [.ref a1, .long a2], (sd_oI ρ, h2), cT) 2 [(0, .ref q.1), (1, .long q.2.1), (3, .int q.2.2)] [] h c := by
  induction n with
  | zero => intro q h c hf; cases hf
  | succ n ih => intro q h c hf; exact sX5_find_b2 l G a1 a2 ρ h2 cT _ ih _ _ _ _ _ hf
def fX5_find (G : sd_G) (a1 : Nat) (a2 : Int64) : sd_M Int32 :=
  sd_loop (fun k s => fX5_find_b2 G k s.1 s.2.1 s.2.2) sd_FU (a1, a2, 0)
set_option maxHeartbeats 4000000 in
theorem sX5_find (l : Launch) (G : sd_G) (a1 : Nat) (a2 : Int64) (h : sd_H) (ρ : Int32) (cT : Nat × Nat) (h2 : sd_H) (hf : fX5_find G a1 a2 h = some (ρ, cT, h2)) : sd_Met mX5_find ((l, G), (0, 0), [.ref a1, .long a2], (sd_oI ρ, h2), cT) h := by
  refine sd_entry (plainFor_of_name rfl) rfl (Nat.le_of_ble_eq_true rfl) ?_
  show sd_J mX5_find ((l, G), (0, 0), [.ref a1, .long a2], (sd_oI ρ, h2), cT) 0 [(0, .ref a1), (1, .long a2)] [] h cT
  unfold fX5_find at hf
  refine sj_iconst (v := 0) dX5_find_0 (by decide) ?_
  refine sj_istore_n [(3, .int 0), (0, .ref a1), (1, .long a2)] dX5_find_1 (by decide) rfl ?_
  exact sj_loc [1, 2, 0] rfl (sX5_find_b2_loop l G a1 a2 ρ h2 cT sd_FU (a1, a2, 0) _ _ hf)
/-! SofaDigModel.newEmpire(LSofaDigModel$Plan;J)I -/
abbrev cX5_newEmpire : ByteArray := prog_46_method_70_code
def yX5_newEmpire : MethodName := ⟨RX5, "newEmpire", "(LSofaDigModel$Plan;J)I"⟩
def dkwX5_newEmpire_1 : List UInt8 := [180, 1, 73, 43, 180, 0, 137, 32, 80, 43, 89, 180, 0, 137, 4, 96, 181, 0, 137, 3, 172]
abbrev dktX5_newEmpire_1 : List UInt8 := dkwX5_newEmpire_1 ++ []
def dkwX5_newEmpire_0 : List UInt8 := [43, 32, 184, 1, 76, 2, 159, 0, 5, 5, 172, 43, 180, 0, 137, 16, 6, 160, 0, 5, 7, 172, 43]
abbrev dktX5_newEmpire_0 : List UInt8 := dkwX5_newEmpire_0 ++ dktX5_newEmpire_1
theorem dksX5_newEmpire_0 : cX5_newEmpire.data.toList.drop 0 = dktX5_newEmpire_0 := by decide +kernel
theorem dksX5_newEmpire_1 : cX5_newEmpire.data.toList.drop 23 = dktX5_newEmpire_1 := dk_seg dksX5_newEmpire_0 23 rfl rfl
theorem dX5_newEmpire_0 : decode cX5_newEmpire 0 = .ok (.aload_n 1, 1) := dk_43 (dk_at dksX5_newEmpire_0 0 rfl rfl)
theorem dX5_newEmpire_1 : decode cX5_newEmpire 1 = .ok (.lload_n 2, 1) := dk_32 (dk_at dksX5_newEmpire_0 1 rfl rfl)
theorem dX5_newEmpire_2 : decode cX5_newEmpire 2 = .ok (.invokestatic 332, 3) := dk_184 1 76 (dk_at dksX5_newEmpire_0 2 rfl rfl)
theorem dX5_newEmpire_5 : decode cX5_newEmpire 5 = .ok (.iconst (-1), 1) := dk_2 (dk_at dksX5_newEmpire_0 5 rfl rfl)
theorem dX5_newEmpire_6 : decode cX5_newEmpire 6 = .ok (.if_icmp .eq 5, 3) := dk_159 0 5 (dk_at dksX5_newEmpire_0 6 rfl rfl)
theorem dX5_newEmpire_9 : decode cX5_newEmpire 9 = .ok (.iconst 2, 1) := dk_5 (dk_at dksX5_newEmpire_0 9 rfl rfl)
theorem dX5_newEmpire_10 : decode cX5_newEmpire 10 = .ok (.ireturn, 1) := dk_172 (dk_at dksX5_newEmpire_0 10 rfl rfl)
theorem dX5_newEmpire_11 : decode cX5_newEmpire 11 = .ok (.aload_n 1, 1) := dk_43 (dk_at dksX5_newEmpire_0 11 rfl rfl)
theorem dX5_newEmpire_12 : decode cX5_newEmpire 12 = .ok (.getfield 137, 3) := dk_180 0 137 (dk_at dksX5_newEmpire_0 12 rfl rfl)
theorem dX5_newEmpire_15 : decode cX5_newEmpire 15 = .ok (.bipush 6, 2) := dk_16 6 (dk_at dksX5_newEmpire_0 15 rfl rfl)
theorem dX5_newEmpire_17 : decode cX5_newEmpire 17 = .ok (.if_icmp .ne 5, 3) := dk_160 0 5 (dk_at dksX5_newEmpire_0 17 rfl rfl)
theorem dX5_newEmpire_20 : decode cX5_newEmpire 20 = .ok (.iconst 4, 1) := dk_7 (dk_at dksX5_newEmpire_0 20 rfl rfl)
theorem dX5_newEmpire_21 : decode cX5_newEmpire 21 = .ok (.ireturn, 1) := dk_172 (dk_at dksX5_newEmpire_0 21 rfl rfl)
theorem dX5_newEmpire_22 : decode cX5_newEmpire 22 = .ok (.aload_n 1, 1) := dk_43 (dk_at dksX5_newEmpire_0 22 rfl rfl)
theorem dX5_newEmpire_23 : decode cX5_newEmpire 23 = .ok (.getfield 329, 3) := dk_180 1 73 (dk_at dksX5_newEmpire_1 0 rfl rfl)
theorem dX5_newEmpire_26 : decode cX5_newEmpire 26 = .ok (.aload_n 1, 1) := dk_43 (dk_at dksX5_newEmpire_1 3 rfl rfl)
theorem dX5_newEmpire_27 : decode cX5_newEmpire 27 = .ok (.getfield 137, 3) := dk_180 0 137 (dk_at dksX5_newEmpire_1 4 rfl rfl)
theorem dX5_newEmpire_30 : decode cX5_newEmpire 30 = .ok (.lload_n 2, 1) := dk_32 (dk_at dksX5_newEmpire_1 7 rfl rfl)
theorem dX5_newEmpire_31 : decode cX5_newEmpire 31 = .ok (.lastore, 1) := dk_80 (dk_at dksX5_newEmpire_1 8 rfl rfl)
theorem dX5_newEmpire_32 : decode cX5_newEmpire 32 = .ok (.aload_n 1, 1) := dk_43 (dk_at dksX5_newEmpire_1 9 rfl rfl)
theorem dX5_newEmpire_33 : decode cX5_newEmpire 33 = .ok (.dup, 1) := dk_89 (dk_at dksX5_newEmpire_1 10 rfl rfl)
theorem dX5_newEmpire_34 : decode cX5_newEmpire 34 = .ok (.getfield 137, 3) := dk_180 0 137 (dk_at dksX5_newEmpire_1 11 rfl rfl)
theorem dX5_newEmpire_37 : decode cX5_newEmpire 37 = .ok (.iconst 1, 1) := dk_4 (dk_at dksX5_newEmpire_1 14 rfl rfl)
theorem dX5_newEmpire_38 : decode cX5_newEmpire 38 = .ok (.iadd, 1) := dk_96 (dk_at dksX5_newEmpire_1 15 rfl rfl)
theorem dX5_newEmpire_39 : decode cX5_newEmpire 39 = .ok (.putfield 137, 3) := dk_181 0 137 (dk_at dksX5_newEmpire_1 16 rfl rfl)
theorem dX5_newEmpire_42 : decode cX5_newEmpire 42 = .ok (.iconst 0, 1) := dk_3 (dk_at dksX5_newEmpire_1 19 rfl rfl)
theorem dX5_newEmpire_43 : decode cX5_newEmpire 43 = .ok (.ireturn, 1) := dk_172 (dk_at dksX5_newEmpire_1 20 rfl rfl)
theorem fpX5_137_5 (n d : String) : sd_Fp ⟨"SofaDigModel", n, d⟩ 137 5 2 .int := ⟨(RX6, TX6, 19), "SofaDigModel$Plan", tyX6, rfl, by decide, rfl, in_X6, Or.inl rfl, tyX6_ok, nmX6, rfl, Or.inl ⟨rfl, Or.inr ⟨_, q2775⟩⟩⟩
abbrev mX5_newEmpire : sd_Y := (yX5_newEmpire, cX5_newEmpire, 4, some (.int), none)
def fX5_newEmpire (G : sd_G) (a0 : Nat) (a1 : Nat) (a2 : Int64) : sd_M Int32 :=
  sd_bnd (fX5_find G a1 a2) fun r1 =>
  if r1 = (-1) then (
    sd_bnd (sd_getI G 5 2 a1) fun v2 =>
    if v2 = 6 then (
      sd_ret 4)
    else (
      sd_bnd (sd_getR G 5 3 a1) fun v3 =>
      sd_bnd (sd_getI G 5 2 a1) fun v4 =>
      sd_bnd (sd_astL v3 v4 a2) fun _ =>
      sd_bnd (sd_getI G 5 2 a1) fun v5 =>
      sd_bnd (sd_put 5 2 .int a1 (.int (v5 + 1))) fun _ =>
      sd_ret 0))
  else (
    sd_ret 2)
set_option maxHeartbeats 4000000 in
theorem sX5_newEmpire (l : Launch) (G : sd_G) (a0 : Nat) (a1 : Nat) (a2 : Int64) (h : sd_H) (ρ : Int32) (cT : Nat × Nat) (h2 : sd_H) (hf : fX5_newEmpire G a0 a1 a2 h = some (ρ, cT, h2)) : sd_Met mX5_newEmpire ((l, G), (1, 23), [.ref a0, .ref a1, .long a2], (sd_oI ρ, h2), cT) h := by
  refine sd_entry (plainFor_of_name rfl) rfl (Nat.le_of_ble_eq_true rfl) ?_
  show sd_J mX5_newEmpire ((l, G), (1, 23), [.ref a0, .ref a1, .long a2], (sd_oI ρ, h2), cT) 0 [(0, .ref a0), (1, .ref a1), (2, .long a2)] [] h cT
  unfold fX5_newEmpire at hf
  refine sj_aload_n 1 dX5_newEmpire_0 rfl ?_
  refine sj_lload_n 2 dX5_newEmpire_1 rfl ?_
  refine sj_cI (rest := []) (fun _ _ _ e => sj_runS (n := 2) (rest := []) (sX5_find l G a1 a2 h _ _ _ e) rfl rfl q3073 q3074 q127 q3075 (by decide +kernel) rfl ⟨Nat.le_of_ble_eq_true rfl, Nat.le_of_ble_eq_true rfl⟩ rfl (Nat.le_of_ble_eq_true rfl) dX5_newEmpire_2) hf (fun r1 h c hf => ?_)
  refine sj_iconst (v := (-1)) dX5_newEmpire_5 (by decide) ?_
  refine sj_iceq 11 hf dX5_newEmpire_6 (by decide) (fun g6 hf => ?_) (fun g6 hf => ?_)
  · refine sj_aload_n 1 dX5_newEmpire_11 rfl ?_
    refine sj_getI fdX5_137_5 hf dX5_newEmpire_12 (fun v2 hf => ?_)
    refine sj_bipush (v := 6) dX5_newEmpire_15 (by decide) ?_
    refine sj_icne 22 hf dX5_newEmpire_17 (by decide) (fun g17 hf => ?_) (fun g17 hf => ?_)
    · refine sj_aload_n 1 dX5_newEmpire_22 rfl ?_
      refine sj_getR fdX5_329_5 hf dX5_newEmpire_23 (fun v3 hf => ?_)
      refine sj_aload_n 1 dX5_newEmpire_26 rfl ?_
      refine sj_getI fdX5_137_5 hf dX5_newEmpire_27 (fun v4 hf => ?_)
      refine sj_lload_n 2 dX5_newEmpire_30 rfl ?_
      refine sj_last hf dX5_newEmpire_31 (fun h hf => ?_)
      refine sj_aload_n 1 dX5_newEmpire_32 rfl ?_
      refine sj_dup dX5_newEmpire_33 rfl ?_
      refine sj_getI fdX5_137_5 hf dX5_newEmpire_34 (fun v5 hf => ?_)
      refine sj_iconst (v := 1) dX5_newEmpire_37 (by decide) ?_
      refine sj_iadd dX5_newEmpire_38 ?_
      refine sj_put (fpX5_137_5 _ _) hf dX5_newEmpire_39 (fun h hf => ?_)
      refine sj_iconst (v := 0) dX5_newEmpire_42 (by decide) ?_
      exact sj_iret (o := sd_oI) hf rfl rfl rfl dX5_newEmpire_43
    · refine sj_iconst (v := 4) dX5_newEmpire_20 (by decide) ?_
      exact sj_iret (o := sd_oI) hf rfl rfl rfl dX5_newEmpire_21
  · refine sj_iconst (v := 2) dX5_newEmpire_9 (by decide) ?_
    exact sj_iret (o := sd_oI) hf rfl rfl rfl dX5_newEmpire_10
/-! SofaDigModel.itsYears(LSofaDigModel$Plan;JZ)I -/
abbrev cX5_itsYears : ByteArray := prog_46_method_71_code
def yX5_itsYears : MethodName := ⟨RX5, "itsYears", "(LSofaDigModel$Plan;JZ)I"⟩
def dkwX5_itsYears_2 : List UInt8 := [32, 136, 79, 167, 0, 12, 43, 180, 0, 140, 21, 5, 32, 136, 79, 3, 172]
abbrev dktX5_itsYears_2 : List UInt8 := dkwX5_itsYears_2 ++ []
def dkwX5_itsYears_1 : List UInt8 := [180, 0, 125, 21, 5, 46, 133, 148, 156, 0, 5, 8, 172, 21, 4, 153, 0, 15, 43, 180, 0, 125, 21, 5]
abbrev dktX5_itsYears_1 : List UInt8 := dkwX5_itsYears_1 ++ dktX5_itsYears_2
def dkwX5_itsYears_0 : List UInt8 := [43, 180, 0, 137, 4, 100, 54, 5, 32, 20, 1, 79, 148, 157, 0, 21, 21, 4, 154, 0, 18, 32, 43]
abbrev dktX5_itsYears_0 : List UInt8 := dkwX5_itsYears_0 ++ dktX5_itsYears_1
theorem dksX5_itsYears_0 : cX5_itsYears.data.toList.drop 0 = dktX5_itsYears_0 := by decide +kernel
theorem dksX5_itsYears_1 : cX5_itsYears.data.toList.drop 23 = dktX5_itsYears_1 := dk_seg dksX5_itsYears_0 23 rfl rfl
theorem dksX5_itsYears_2 : cX5_itsYears.data.toList.drop 47 = dktX5_itsYears_2 := dk_seg dksX5_itsYears_1 24 rfl rfl
theorem dX5_itsYears_0 : decode cX5_itsYears 0 = .ok (.aload_n 1, 1) := dk_43 (dk_at dksX5_itsYears_0 0 rfl rfl)
theorem dX5_itsYears_1 : decode cX5_itsYears 1 = .ok (.getfield 137, 3) := dk_180 0 137 (dk_at dksX5_itsYears_0 1 rfl rfl)
theorem dX5_itsYears_4 : decode cX5_itsYears 4 = .ok (.iconst 1, 1) := dk_4 (dk_at dksX5_itsYears_0 4 rfl rfl)
theorem dX5_itsYears_5 : decode cX5_itsYears 5 = .ok (.isub, 1) := dk_100 (dk_at dksX5_itsYears_0 5 rfl rfl)
theorem dX5_itsYears_6 : decode cX5_itsYears 6 = .ok (.istore 5, 2) := dk_54 5 (dk_at dksX5_itsYears_0 6 rfl rfl)
theorem dX5_itsYears_8 : decode cX5_itsYears 8 = .ok (.lload_n 2, 1) := dk_32 (dk_at dksX5_itsYears_0 8 rfl rfl)
theorem dX5_itsYears_9 : decode cX5_itsYears 9 = .ok (.ldc2_w 335, 3) := dk_20 1 79 (dk_at dksX5_itsYears_0 9 rfl rfl)
theorem dX5_itsYears_12 : decode cX5_itsYears 12 = .ok (.lcmp, 1) := dk_148 (dk_at dksX5_itsYears_0 12 rfl rfl)
theorem dX5_itsYears_13 : decode cX5_itsYears 13 = .ok (.ifCond .gt 21, 3) := dk_157 0 21 (dk_at dksX5_itsYears_0 13 rfl rfl)
theorem dX5_itsYears_16 : decode cX5_itsYears 16 = .ok (.iload 4, 2) := dk_21 4 (dk_at dksX5_itsYears_0 16 rfl rfl)
theorem dX5_itsYears_18 : decode cX5_itsYears 18 = .ok (.ifCond .ne 18, 3) := dk_154 0 18 (dk_at dksX5_itsYears_0 18 rfl rfl)
theorem dX5_itsYears_21 : decode cX5_itsYears 21 = .ok (.lload_n 2, 1) := dk_32 (dk_at dksX5_itsYears_0 21 rfl rfl)
theorem dX5_itsYears_22 : decode cX5_itsYears 22 = .ok (.aload_n 1, 1) := dk_43 (dk_at dksX5_itsYears_0 22 rfl rfl)
theorem dX5_itsYears_23 : decode cX5_itsYears 23 = .ok (.getfield 125, 3) := dk_180 0 125 (dk_at dksX5_itsYears_1 0 rfl rfl)
theorem dX5_itsYears_26 : decode cX5_itsYears 26 = .ok (.iload 5, 2) := dk_21 5 (dk_at dksX5_itsYears_1 3 rfl rfl)
theorem dX5_itsYears_28 : decode cX5_itsYears 28 = .ok (.iaload, 1) := dk_46 (dk_at dksX5_itsYears_1 5 rfl rfl)
theorem dX5_itsYears_29 : decode cX5_itsYears 29 = .ok (.i2l, 1) := dk_133 (dk_at dksX5_itsYears_1 6 rfl rfl)
theorem dX5_itsYears_30 : decode cX5_itsYears 30 = .ok (.lcmp, 1) := dk_148 (dk_at dksX5_itsYears_1 7 rfl rfl)
theorem dX5_itsYears_31 : decode cX5_itsYears 31 = .ok (.ifCond .ge 5, 3) := dk_156 0 5 (dk_at dksX5_itsYears_1 8 rfl rfl)
theorem dX5_itsYears_34 : decode cX5_itsYears 34 = .ok (.iconst 5, 1) := dk_8 (dk_at dksX5_itsYears_1 11 rfl rfl)
theorem dX5_itsYears_35 : decode cX5_itsYears 35 = .ok (.ireturn, 1) := dk_172 (dk_at dksX5_itsYears_1 12 rfl rfl)
theorem dX5_itsYears_36 : decode cX5_itsYears 36 = .ok (.iload 4, 2) := dk_21 4 (dk_at dksX5_itsYears_1 13 rfl rfl)
theorem dX5_itsYears_38 : decode cX5_itsYears 38 = .ok (.ifCond .eq 15, 3) := dk_153 0 15 (dk_at dksX5_itsYears_1 15 rfl rfl)
theorem dX5_itsYears_41 : decode cX5_itsYears 41 = .ok (.aload_n 1, 1) := dk_43 (dk_at dksX5_itsYears_1 18 rfl rfl)
theorem dX5_itsYears_42 : decode cX5_itsYears 42 = .ok (.getfield 125, 3) := dk_180 0 125 (dk_at dksX5_itsYears_1 19 rfl rfl)
theorem dX5_itsYears_45 : decode cX5_itsYears 45 = .ok (.iload 5, 2) := dk_21 5 (dk_at dksX5_itsYears_1 22 rfl rfl)
theorem dX5_itsYears_47 : decode cX5_itsYears 47 = .ok (.lload_n 2, 1) := dk_32 (dk_at dksX5_itsYears_2 0 rfl rfl)
theorem dX5_itsYears_48 : decode cX5_itsYears 48 = .ok (.l2i, 1) := dk_136 (dk_at dksX5_itsYears_2 1 rfl rfl)
theorem dX5_itsYears_49 : decode cX5_itsYears 49 = .ok (.iastore, 1) := dk_79 (dk_at dksX5_itsYears_2 2 rfl rfl)
theorem dX5_itsYears_50 : decode cX5_itsYears 50 = .ok (.goto 12, 3) := dk_167 0 12 (dk_at dksX5_itsYears_2 3 rfl rfl)
theorem dX5_itsYears_53 : decode cX5_itsYears 53 = .ok (.aload_n 1, 1) := dk_43 (dk_at dksX5_itsYears_2 6 rfl rfl)
theorem dX5_itsYears_54 : decode cX5_itsYears 54 = .ok (.getfield 140, 3) := dk_180 0 140 (dk_at dksX5_itsYears_2 7 rfl rfl)
theorem dX5_itsYears_57 : decode cX5_itsYears 57 = .ok (.iload 5, 2) := dk_21 5 (dk_at dksX5_itsYears_2 10 rfl rfl)
theorem dX5_itsYears_59 : decode cX5_itsYears 59 = .ok (.lload_n 2, 1) := dk_32 (dk_at dksX5_itsYears_2 12 rfl rfl)
theorem dX5_itsYears_60 : decode cX5_itsYears 60 = .ok (.l2i, 1) := dk_136 (dk_at dksX5_itsYears_2 13 rfl rfl)
theorem dX5_itsYears_61 : decode cX5_itsYears 61 = .ok (.iastore, 1) := dk_79 (dk_at dksX5_itsYears_2 14 rfl rfl)
theorem dX5_itsYears_62 : decode cX5_itsYears 62 = .ok (.iconst 0, 1) := dk_3 (dk_at dksX5_itsYears_2 15 rfl rfl)
theorem dX5_itsYears_63 : decode cX5_itsYears 63 = .ok (.ireturn, 1) := dk_172 (dk_at dksX5_itsYears_2 16 rfl rfl)
theorem fdX5_140_5 : sd_Fd "SofaDigModel" 140 5 5 := ⟨(RX6, TX6, 19), "SofaDigModel$Plan", rfl, by decide, rfl, in_X6, Or.inl rfl, Or.inr ⟨_, q2781⟩⟩
theorem fdX5_125_5 : sd_Fd "SofaDigModel" 125 5 4 := ⟨(RX6, TX6, 19), "SofaDigModel$Plan", rfl, by decide, rfl, in_X6, Or.inl rfl, Or.inr ⟨_, q2779⟩⟩
abbrev mX5_itsYears : sd_Y := (yX5_itsYears, cX5_itsYears, 6, some (.int), none)
def fX5_itsYears_b36 (G : sd_G) (w1 : Nat) (w2 : Int64) (w4 : Int32) (w5 : Int32) : sd_M Int32 :=
  if w4 = 0 then (
    sd_bnd (sd_getR G 5 5 w1) fun v3 =>
    sd_bnd (sd_astI 0 v3 w5 (w2.toInt32)) fun _ =>
    sd_ret 0)
  else (
    sd_bnd (sd_getR G 5 4 w1) fun v4 =>
    sd_bnd (sd_astI 0 v4 w5 (w2.toInt32)) fun _ =>
    sd_ret 0)
set_option maxHeartbeats 4000000 in
theorem sX5_itsYears_b36 (l : Launch) (G : sd_G) (a0 : Nat) (a1 : Nat) (a2 : Int64) (a3 : Int32) (ρ : Int32) (h2 : sd_H) (cT : Nat × Nat) (w1 : Nat) (w2 : Int64) (w4 : Int32) (w5 : Int32) (h : sd_H) (c : Nat × Nat) (hf : fX5_itsYears_b36 G w1 w2 w4 w5 h = some (ρ, c, h2)) : sd_J mX5_itsYears ((l, G), (0, 0), [.ref a0, .ref a1, .long a2, .int a3], (sd_oI ρ, h2), cT) 36 [(1, .ref w1), (2, .long w2), (4, .int w4), (5, .int w5)] [] h c := by
  unfold fX5_itsYears_b36 at hf
  refine sj_iload 2 dX5_itsYears_36 rfl ?_
  refine sj_ifeq 53 hf dX5_itsYears_38 (by decide) (fun g38 hf => ?_) (fun g38 hf => ?_)
  · refine sj_aload_n 0 dX5_itsYears_53 rfl ?_
    refine sj_getR fdX5_140_5 hf dX5_itsYears_54 (fun v3 hf => ?_)
    refine sj_iload 3 dX5_itsYears_57 rfl ?_
    refine sj_lload_n 1 dX5_itsYears_59 rfl ?_
    refine sj_l2i dX5_itsYears_60 ?_
    refine sj_iast hf dX5_itsYears_61 (fun h hf => ?_)
    refine sj_iconst (v := 0) dX5_itsYears_62 (by decide) ?_
    exact sj_iret (o := sd_oI) hf rfl rfl rfl dX5_itsYears_63
  · refine sj_aload_n 0 dX5_itsYears_41 rfl ?_
    refine sj_getR fdX5_125_5 hf dX5_itsYears_42 (fun v4 hf => ?_)
    refine sj_iload 3 dX5_itsYears_45 rfl ?_
    refine sj_lload_n 1 dX5_itsYears_47 rfl ?_
    refine sj_l2i dX5_itsYears_48 ?_
    refine sj_iast hf dX5_itsYears_49 (fun h hf => ?_)
    refine sj_goto 62 dX5_itsYears_50 (by decide) ?_
    refine sj_iconst (v := 0) dX5_itsYears_62 (by decide) ?_
    exact sj_iret (o := sd_oI) hf rfl rfl rfl dX5_itsYears_63
def fX5_itsYears (G : sd_G) (a0 : Nat) (a1 : Nat) (a2 : Int64) (a3 : Int32) : sd_M Int32 :=
  sd_bnd (sd_getI G 5 2 a1) fun v1 =>
  sd_bnd (sd_ret (v1 - 1)) fun x2 =>
  if 0 < (lg_cmp a2 999) then (
    sd_ret 5)
  else (
    if a3 = 0 then (
      sd_bnd (sd_getR G 5 4 a1) fun v5 =>
      sd_bnd (sd_aldI G 0 v5 x2) fun v6 =>
      if 0 ≤ (lg_cmp a2 (v6.toInt64)) then (
        fX5_itsYears_b36 G a1 a2 a3 x2)
      else (
        sd_ret 5))
    else (
      fX5_itsYears_b36 G a1 a2 a3 x2))
set_option maxHeartbeats 4000000 in
theorem sX5_itsYears (l : Launch) (G : sd_G) (a0 : Nat) (a1 : Nat) (a2 : Int64) (a3 : Int32) (h : sd_H) (ρ : Int32) (cT : Nat × Nat) (h2 : sd_H) (hf : fX5_itsYears G a0 a1 a2 a3 h = some (ρ, cT, h2)) : sd_Met mX5_itsYears ((l, G), (0, 0), [.ref a0, .ref a1, .long a2, .int a3], (sd_oI ρ, h2), cT) h := by
  refine sd_entry (plainFor_of_name rfl) rfl (Nat.le_of_ble_eq_true rfl) ?_
  show sd_J mX5_itsYears ((l, G), (0, 0), [.ref a0, .ref a1, .long a2, .int a3], (sd_oI ρ, h2), cT) 0 [(0, .ref a0), (1, .ref a1), (2, .long a2), (4, .int a3)] [] h cT
  unfold fX5_itsYears at hf
  refine sj_aload_n 1 dX5_itsYears_0 rfl ?_
  refine sj_getI fdX5_137_5 hf dX5_itsYears_1 (fun v1 hf => ?_)
  refine sj_iconst (v := 1) dX5_itsYears_4 (by decide) ?_
  refine sj_isub dX5_itsYears_5 ?_
  refine sj_nameI hf (fun x2 hf => ?_)
  refine sj_istore [(5, .int x2), (0, .ref a0), (1, .ref a1), (2, .long a2), (4, .int a3)] dX5_itsYears_6 (by decide) rfl ?_
  refine sj_lload_n 3 dX5_itsYears_8 rfl ?_
  refine sj_ldc2 q3080 dX5_itsYears_9 ?_
  refine sj_lcmp dX5_itsYears_12 ?_
  refine sj_ifgt 34 hf dX5_itsYears_13 (by decide) (fun g13 hf => ?_) (fun g13 hf => ?_)
  · refine sj_iconst (v := 5) dX5_itsYears_34 (by decide) ?_
    exact sj_iret (o := sd_oI) hf rfl rfl rfl dX5_itsYears_35
  · refine sj_iload 4 dX5_itsYears_16 rfl ?_
    refine sj_ifne 36 hf dX5_itsYears_18 (by decide) (fun g18 hf => ?_) (fun g18 hf => ?_)
    · exact sj_loc [2, 3, 4, 0] rfl (sX5_itsYears_b36 l G a0 a1 a2 a3 ρ h2 cT a1 a2 a3 x2 _ _ hf)
    · refine sj_lload_n 3 dX5_itsYears_21 rfl ?_
      refine sj_aload_n 2 dX5_itsYears_22 rfl ?_
      refine sj_getR fdX5_125_5 hf dX5_itsYears_23 (fun v5 hf => ?_)
      refine sj_iload 0 dX5_itsYears_26 rfl ?_
      refine sj_iald hf dX5_itsYears_28 (fun v6 hf => ?_)
      refine sj_i2l dX5_itsYears_29 ?_
      refine sj_lcmp dX5_itsYears_30 ?_
      refine sj_ifge 36 hf dX5_itsYears_31 (by decide) (fun g31 hf => ?_) (fun g31 hf => ?_)
      · exact sj_loc [2, 3, 4, 0] rfl (sX5_itsYears_b36 l G a0 a1 a2 a3 ρ h2 cT a1 a2 a3 x2 _ _ hf)
      · refine sj_iconst (v := 5) dX5_itsYears_34 (by decide) ?_
        exact sj_iret (o := sd_oI) hf rfl rfl rfl dX5_itsYears_35
/-! SofaDigModel.newFind(LSofaDigModel$Plan;Z)I -/
abbrev cX5_newFind : ByteArray := prog_46_method_72_code
def yX5_newFind : MethodName := ⟨RX5, "newFind", "(LSofaDigModel$Plan;Z)I"⟩
def dkwX5_newFind_1 : List UInt8 := [28, 84, 43, 89, 180, 0, 65, 4, 96, 181, 0, 65, 3, 172]
abbrev dktX5_newFind_1 : List UInt8 := dkwX5_newFind_1 ++ []
def dkwX5_newFind_0 : List UInt8 := [42, 3, 181, 1, 81, 43, 180, 0, 65, 16, 24, 160, 0, 5, 7, 172, 43, 180, 0, 119, 43, 180, 0, 65]
abbrev dktX5_newFind_0 : List UInt8 := dkwX5_newFind_0 ++ dktX5_newFind_1
theorem dksX5_newFind_0 : cX5_newFind.data.toList.drop 0 = dktX5_newFind_0 := by decide +kernel
theorem dksX5_newFind_1 : cX5_newFind.data.toList.drop 24 = dktX5_newFind_1 := dk_seg dksX5_newFind_0 24 rfl rfl
theorem dX5_newFind_0 : decode cX5_newFind 0 = .ok (.aload_n 0, 1) := dk_42 (dk_at dksX5_newFind_0 0 rfl rfl)
theorem dX5_newFind_1 : decode cX5_newFind 1 = .ok (.iconst 0, 1) := dk_3 (dk_at dksX5_newFind_0 1 rfl rfl)
theorem dX5_newFind_2 : decode cX5_newFind 2 = .ok (.putfield 337, 3) := dk_181 1 81 (dk_at dksX5_newFind_0 2 rfl rfl)
theorem dX5_newFind_5 : decode cX5_newFind 5 = .ok (.aload_n 1, 1) := dk_43 (dk_at dksX5_newFind_0 5 rfl rfl)
theorem dX5_newFind_6 : decode cX5_newFind 6 = .ok (.getfield 65, 3) := dk_180 0 65 (dk_at dksX5_newFind_0 6 rfl rfl)
theorem dX5_newFind_9 : decode cX5_newFind 9 = .ok (.bipush 24, 2) := dk_16 24 (dk_at dksX5_newFind_0 9 rfl rfl)
theorem dX5_newFind_11 : decode cX5_newFind 11 = .ok (.if_icmp .ne 5, 3) := dk_160 0 5 (dk_at dksX5_newFind_0 11 rfl rfl)
theorem dX5_newFind_14 : decode cX5_newFind 14 = .ok (.iconst 4, 1) := dk_7 (dk_at dksX5_newFind_0 14 rfl rfl)
theorem dX5_newFind_15 : decode cX5_newFind 15 = .ok (.ireturn, 1) := dk_172 (dk_at dksX5_newFind_0 15 rfl rfl)
theorem dX5_newFind_16 : decode cX5_newFind 16 = .ok (.aload_n 1, 1) := dk_43 (dk_at dksX5_newFind_0 16 rfl rfl)
theorem dX5_newFind_17 : decode cX5_newFind 17 = .ok (.getfield 119, 3) := dk_180 0 119 (dk_at dksX5_newFind_0 17 rfl rfl)
theorem dX5_newFind_20 : decode cX5_newFind 20 = .ok (.aload_n 1, 1) := dk_43 (dk_at dksX5_newFind_0 20 rfl rfl)
theorem dX5_newFind_21 : decode cX5_newFind 21 = .ok (.getfield 65, 3) := dk_180 0 65 (dk_at dksX5_newFind_0 21 rfl rfl)
theorem dX5_newFind_24 : decode cX5_newFind 24 = .ok (.iload_n 2, 1) := dk_28 (dk_at dksX5_newFind_1 0 rfl rfl)
theorem dX5_newFind_25 : decode cX5_newFind 25 = .ok (.bastore, 1) := dk_84 (dk_at dksX5_newFind_1 1 rfl rfl)
theorem dX5_newFind_26 : decode cX5_newFind 26 = .ok (.aload_n 1, 1) := dk_43 (dk_at dksX5_newFind_1 2 rfl rfl)
theorem dX5_newFind_27 : decode cX5_newFind 27 = .ok (.dup, 1) := dk_89 (dk_at dksX5_newFind_1 3 rfl rfl)
theorem dX5_newFind_28 : decode cX5_newFind 28 = .ok (.getfield 65, 3) := dk_180 0 65 (dk_at dksX5_newFind_1 4 rfl rfl)
theorem dX5_newFind_31 : decode cX5_newFind 31 = .ok (.iconst 1, 1) := dk_4 (dk_at dksX5_newFind_1 7 rfl rfl)
theorem dX5_newFind_32 : decode cX5_newFind 32 = .ok (.iadd, 1) := dk_96 (dk_at dksX5_newFind_1 8 rfl rfl)
theorem dX5_newFind_33 : decode cX5_newFind 33 = .ok (.putfield 65, 3) := dk_181 0 65 (dk_at dksX5_newFind_1 9 rfl rfl)
theorem dX5_newFind_36 : decode cX5_newFind 36 = .ok (.iconst 0, 1) := dk_3 (dk_at dksX5_newFind_1 12 rfl rfl)
theorem dX5_newFind_37 : decode cX5_newFind 37 = .ok (.ireturn, 1) := dk_172 (dk_at dksX5_newFind_1 13 rfl rfl)
theorem fpX5_337_4 (n d : String) : sd_Fp ⟨"SofaDigModel", n, d⟩ 337 4 13 .boolean := ⟨(RX5, TX5, 18), "SofaDigModel", tyX5, rfl, by decide, rfl, in_X5, Or.inl rfl, tyX5_ok, nmX5, rfl, Or.inl ⟨rfl, Or.inl q2863⟩⟩
theorem fdX5_65_5 : sd_Fd "SofaDigModel" 65 5 6 := ⟨(RX6, TX6, 19), "SofaDigModel$Plan", rfl, by decide, rfl, in_X6, Or.inl rfl, Or.inr ⟨_, q2782⟩⟩
theorem fdX5_119_5 : sd_Fd "SofaDigModel" 119 5 7 := ⟨(RX6, TX6, 19), "SofaDigModel$Plan", rfl, by decide, rfl, in_X6, Or.inl rfl, Or.inr ⟨_, q2784⟩⟩
theorem fpX5_65_5 (n d : String) : sd_Fp ⟨"SofaDigModel", n, d⟩ 65 5 6 .int := ⟨(RX6, TX6, 19), "SofaDigModel$Plan", tyX6, rfl, by decide, rfl, in_X6, Or.inl rfl, tyX6_ok, nmX6, rfl, Or.inl ⟨rfl, Or.inr ⟨_, q2782⟩⟩⟩
abbrev mX5_newFind : sd_Y := (yX5_newFind, cX5_newFind, 3, some (.int), none)
def fX5_newFind (G : sd_G) (a0 : Nat) (a1 : Nat) (a2 : Int32) : sd_M Int32 :=
  sd_bnd (sd_put 4 13 .boolean a0 (.int 0)) fun _ =>
  sd_bnd (sd_getI G 5 6 a1) fun v1 =>
  if v1 = 24 then (
    sd_ret 4)
  else (
    sd_bnd (sd_getR G 5 7 a1) fun v2 =>
    sd_bnd (sd_getI G 5 6 a1) fun v3 =>
    sd_bnd (sd_astI 3 v2 v3 a2) fun _ =>
    sd_bnd (sd_getI G 5 6 a1) fun v4 =>
    sd_bnd (sd_put 5 6 .int a1 (.int (v4 + 1))) fun _ =>
    sd_ret 0)
set_option maxHeartbeats 4000000 in
theorem sX5_newFind (l : Launch) (G : sd_G) (a0 : Nat) (a1 : Nat) (a2 : Int32) (h : sd_H) (ρ : Int32) (cT : Nat × Nat) (h2 : sd_H) (hf : fX5_newFind G a0 a1 a2 h = some (ρ, cT, h2)) : sd_Met mX5_newFind ((l, G), (0, 0), [.ref a0, .ref a1, .int a2], (sd_oI ρ, h2), cT) h := by
  refine sd_entry (plainFor_of_name rfl) rfl (Nat.le_of_ble_eq_true rfl) ?_
  show sd_J mX5_newFind ((l, G), (0, 0), [.ref a0, .ref a1, .int a2], (sd_oI ρ, h2), cT) 0 [(0, .ref a0), (1, .ref a1), (2, .int a2)] [] h cT
  unfold fX5_newFind at hf
  refine sj_aload_n 0 dX5_newFind_0 rfl ?_
  refine sj_iconst (v := 0) dX5_newFind_1 (by decide) ?_
  refine sj_put (fpX5_337_4 _ _) hf dX5_newFind_2 (fun h hf => ?_)
  refine sj_aload_n 1 dX5_newFind_5 rfl ?_
  refine sj_getI fdX5_65_5 hf dX5_newFind_6 (fun v1 hf => ?_)
  refine sj_bipush (v := 24) dX5_newFind_9 (by decide) ?_
  refine sj_icne 16 hf dX5_newFind_11 (by decide) (fun g11 hf => ?_) (fun g11 hf => ?_)
  · refine sj_aload_n 1 dX5_newFind_16 rfl ?_
    refine sj_getR fdX5_119_5 hf dX5_newFind_17 (fun v2 hf => ?_)
    refine sj_aload_n 1 dX5_newFind_20 rfl ?_
    refine sj_getI fdX5_65_5 hf dX5_newFind_21 (fun v3 hf => ?_)
    refine sj_iload_n 2 dX5_newFind_24 rfl ?_
    refine sj_zast hf dX5_newFind_25 (fun h hf => ?_)
    refine sj_aload_n 1 dX5_newFind_26 rfl ?_
    refine sj_dup dX5_newFind_27 rfl ?_
    refine sj_getI fdX5_65_5 hf dX5_newFind_28 (fun v4 hf => ?_)
    refine sj_iconst (v := 1) dX5_newFind_31 (by decide) ?_
    refine sj_iadd dX5_newFind_32 ?_
    refine sj_put (fpX5_65_5 _ _) hf dX5_newFind_33 (fun h hf => ?_)
    refine sj_iconst (v := 0) dX5_newFind_36 (by decide) ?_
    exact sj_iret (o := sd_oI) hf rfl rfl rfl dX5_newFind_37
  · refine sj_iconst (v := 4) dX5_newFind_14 (by decide) ?_
    exact sj_iret (o := sd_oI) hf rfl rfl rfl dX5_newFind_15
/-! SofaDigModel.itsSeat(LSofaDigModel$Plan;I)I -/
abbrev cX5_itsSeat : ByteArray := prog_46_method_73_code
def yX5_itsSeat : MethodName := ⟨RX5, "itsSeat", "(LSofaDigModel$Plan;I)I"⟩
def dkwX5_itsSeat_1 : List UInt8 := [43, 180, 0, 52, 133, 148, 155, 0, 5, 8, 172, 42, 42, 180, 0, 33, 28, 47, 136, 181, 1, 85, 3, 172]
abbrev dktX5_itsSeat_1 : List UInt8 := dkwX5_itsSeat_1 ++ []
def dkwX5_itsSeat_0 : List UInt8 := [42, 180, 0, 24, 28, 5, 100, 46, 16, 7, 160, 0, 8, 42, 4, 181, 1, 81, 42, 180, 0, 33, 28, 47]
abbrev dktX5_itsSeat_0 : List UInt8 := dkwX5_itsSeat_0 ++ dktX5_itsSeat_1
theorem dksX5_itsSeat_0 : cX5_itsSeat.data.toList.drop 0 = dktX5_itsSeat_0 := by decide +kernel
theorem dksX5_itsSeat_1 : cX5_itsSeat.data.toList.drop 24 = dktX5_itsSeat_1 := dk_seg dksX5_itsSeat_0 24 rfl rfl
theorem dX5_itsSeat_0 : decode cX5_itsSeat 0 = .ok (.aload_n 0, 1) := dk_42 (dk_at dksX5_itsSeat_0 0 rfl rfl)
theorem dX5_itsSeat_1 : decode cX5_itsSeat 1 = .ok (.getfield 24, 3) := dk_180 0 24 (dk_at dksX5_itsSeat_0 1 rfl rfl)
theorem dX5_itsSeat_4 : decode cX5_itsSeat 4 = .ok (.iload_n 2, 1) := dk_28 (dk_at dksX5_itsSeat_0 4 rfl rfl)
theorem dX5_itsSeat_5 : decode cX5_itsSeat 5 = .ok (.iconst 2, 1) := dk_5 (dk_at dksX5_itsSeat_0 5 rfl rfl)
theorem dX5_itsSeat_6 : decode cX5_itsSeat 6 = .ok (.isub, 1) := dk_100 (dk_at dksX5_itsSeat_0 6 rfl rfl)
theorem dX5_itsSeat_7 : decode cX5_itsSeat 7 = .ok (.iaload, 1) := dk_46 (dk_at dksX5_itsSeat_0 7 rfl rfl)
theorem dX5_itsSeat_8 : decode cX5_itsSeat 8 = .ok (.bipush 7, 2) := dk_16 7 (dk_at dksX5_itsSeat_0 8 rfl rfl)
theorem dX5_itsSeat_10 : decode cX5_itsSeat 10 = .ok (.if_icmp .ne 8, 3) := dk_160 0 8 (dk_at dksX5_itsSeat_0 10 rfl rfl)
theorem dX5_itsSeat_13 : decode cX5_itsSeat 13 = .ok (.aload_n 0, 1) := dk_42 (dk_at dksX5_itsSeat_0 13 rfl rfl)
theorem dX5_itsSeat_14 : decode cX5_itsSeat 14 = .ok (.iconst 1, 1) := dk_4 (dk_at dksX5_itsSeat_0 14 rfl rfl)
theorem dX5_itsSeat_15 : decode cX5_itsSeat 15 = .ok (.putfield 337, 3) := dk_181 1 81 (dk_at dksX5_itsSeat_0 15 rfl rfl)
theorem dX5_itsSeat_18 : decode cX5_itsSeat 18 = .ok (.aload_n 0, 1) := dk_42 (dk_at dksX5_itsSeat_0 18 rfl rfl)
theorem dX5_itsSeat_19 : decode cX5_itsSeat 19 = .ok (.getfield 33, 3) := dk_180 0 33 (dk_at dksX5_itsSeat_0 19 rfl rfl)
theorem dX5_itsSeat_22 : decode cX5_itsSeat 22 = .ok (.iload_n 2, 1) := dk_28 (dk_at dksX5_itsSeat_0 22 rfl rfl)
theorem dX5_itsSeat_23 : decode cX5_itsSeat 23 = .ok (.laload, 1) := dk_47 (dk_at dksX5_itsSeat_0 23 rfl rfl)
theorem dX5_itsSeat_24 : decode cX5_itsSeat 24 = .ok (.aload_n 1, 1) := dk_43 (dk_at dksX5_itsSeat_1 0 rfl rfl)
theorem dX5_itsSeat_25 : decode cX5_itsSeat 25 = .ok (.getfield 52, 3) := dk_180 0 52 (dk_at dksX5_itsSeat_1 1 rfl rfl)
theorem dX5_itsSeat_28 : decode cX5_itsSeat 28 = .ok (.i2l, 1) := dk_133 (dk_at dksX5_itsSeat_1 4 rfl rfl)
theorem dX5_itsSeat_29 : decode cX5_itsSeat 29 = .ok (.lcmp, 1) := dk_148 (dk_at dksX5_itsSeat_1 5 rfl rfl)
theorem dX5_itsSeat_30 : decode cX5_itsSeat 30 = .ok (.ifCond .lt 5, 3) := dk_155 0 5 (dk_at dksX5_itsSeat_1 6 rfl rfl)
theorem dX5_itsSeat_33 : decode cX5_itsSeat 33 = .ok (.iconst 5, 1) := dk_8 (dk_at dksX5_itsSeat_1 9 rfl rfl)
theorem dX5_itsSeat_34 : decode cX5_itsSeat 34 = .ok (.ireturn, 1) := dk_172 (dk_at dksX5_itsSeat_1 10 rfl rfl)
theorem dX5_itsSeat_35 : decode cX5_itsSeat 35 = .ok (.aload_n 0, 1) := dk_42 (dk_at dksX5_itsSeat_1 11 rfl rfl)
theorem dX5_itsSeat_36 : decode cX5_itsSeat 36 = .ok (.aload_n 0, 1) := dk_42 (dk_at dksX5_itsSeat_1 12 rfl rfl)
theorem dX5_itsSeat_37 : decode cX5_itsSeat 37 = .ok (.getfield 33, 3) := dk_180 0 33 (dk_at dksX5_itsSeat_1 13 rfl rfl)
theorem dX5_itsSeat_40 : decode cX5_itsSeat 40 = .ok (.iload_n 2, 1) := dk_28 (dk_at dksX5_itsSeat_1 16 rfl rfl)
theorem dX5_itsSeat_41 : decode cX5_itsSeat 41 = .ok (.laload, 1) := dk_47 (dk_at dksX5_itsSeat_1 17 rfl rfl)
theorem dX5_itsSeat_42 : decode cX5_itsSeat 42 = .ok (.l2i, 1) := dk_136 (dk_at dksX5_itsSeat_1 18 rfl rfl)
theorem dX5_itsSeat_43 : decode cX5_itsSeat 43 = .ok (.putfield 341, 3) := dk_181 1 85 (dk_at dksX5_itsSeat_1 19 rfl rfl)
theorem dX5_itsSeat_46 : decode cX5_itsSeat 46 = .ok (.iconst 0, 1) := dk_3 (dk_at dksX5_itsSeat_1 22 rfl rfl)
theorem dX5_itsSeat_47 : decode cX5_itsSeat 47 = .ok (.ireturn, 1) := dk_172 (dk_at dksX5_itsSeat_1 23 rfl rfl)
theorem fpX5_341_4 (n d : String) : sd_Fp ⟨"SofaDigModel", n, d⟩ 341 4 14 .int := ⟨(RX5, TX5, 18), "SofaDigModel", tyX5, rfl, by decide, rfl, in_X5, Or.inl rfl, tyX5_ok, nmX5, rfl, Or.inl ⟨rfl, Or.inl q2864⟩⟩
abbrev mX5_itsSeat : sd_Y := (yX5_itsSeat, cX5_itsSeat, 3, some (.int), none)
def fX5_itsSeat_b18 (G : sd_G) (w0 : Nat) (w1 : Nat) (w2 : Int32) : sd_M Int32 :=
  sd_bnd (sd_getR G 4 8 w0) fun v3 =>
  sd_bnd (sd_aldL G v3 w2) fun v4 =>
  sd_bnd (sd_getI G 5 0 w1) fun v5 =>
  if (lg_cmp v4 (v5.toInt64)) < 0 then (
    sd_bnd (sd_getR G 4 8 w0) fun v6 =>
    sd_bnd (sd_aldL G v6 w2) fun v7 =>
    sd_bnd (sd_put 4 14 .int w0 (.int (v7.toInt32))) fun _ =>
    sd_ret 0)
  else (
    sd_ret 5)
set_option maxHeartbeats 4000000 in
theorem sX5_itsSeat_b18 (l : Launch) (G : sd_G) (a0 : Nat) (a1 : Nat) (a2 : Int32) (ρ : Int32) (h2 : sd_H) (cT : Nat × Nat) (w0 : Nat) (w1 : Nat) (w2 : Int32) (h : sd_H) (c : Nat × Nat) (hf : fX5_itsSeat_b18 G w0 w1 w2 h = some (ρ, c, h2)) : sd_J mX5_itsSeat ((l, G), (0, 0), [.ref a0, .ref a1, .int a2], (sd_oI ρ, h2), cT) 18 [(0, .ref w0), (1, .ref w1), (2, .int w2)] [] h c := by
  unfold fX5_itsSeat_b18 at hf
  refine sj_aload_n 0 dX5_itsSeat_18 rfl ?_
  refine sj_getR fdX5_33_4 hf dX5_itsSeat_19 (fun v3 hf => ?_)
  refine sj_iload_n 2 dX5_itsSeat_22 rfl ?_
  refine sj_lald hf dX5_itsSeat_23 (fun v4 hf => ?_)
  refine sj_aload_n 1 dX5_itsSeat_24 rfl ?_
  refine sj_getI fdX5_52_5 hf dX5_itsSeat_25 (fun v5 hf => ?_)
  refine sj_i2l dX5_itsSeat_28 ?_
  refine sj_lcmp dX5_itsSeat_29 ?_
  refine sj_iflt 35 hf dX5_itsSeat_30 (by decide) (fun g30 hf => ?_) (fun g30 hf => ?_)
  · refine sj_aload_n 0 dX5_itsSeat_35 rfl ?_
    refine sj_aload_n 0 dX5_itsSeat_36 rfl ?_
    refine sj_getR fdX5_33_4 hf dX5_itsSeat_37 (fun v6 hf => ?_)
    refine sj_iload_n 2 dX5_itsSeat_40 rfl ?_
    refine sj_lald hf dX5_itsSeat_41 (fun v7 hf => ?_)
    refine sj_l2i dX5_itsSeat_42 ?_
    refine sj_put (fpX5_341_4 _ _) hf dX5_itsSeat_43 (fun h hf => ?_)
    refine sj_iconst (v := 0) dX5_itsSeat_46 (by decide) ?_
    exact sj_iret (o := sd_oI) hf rfl rfl rfl dX5_itsSeat_47
  · refine sj_iconst (v := 5) dX5_itsSeat_33 (by decide) ?_
    exact sj_iret (o := sd_oI) hf rfl rfl rfl dX5_itsSeat_34
def fX5_itsSeat (G : sd_G) (a0 : Nat) (a1 : Nat) (a2 : Int32) : sd_M Int32 :=
  sd_bnd (sd_getR G 4 5 a0) fun v1 =>
  sd_bnd (sd_aldI G 0 v1 (a2 - 2)) fun v2 =>
  if v2 = 7 then (
    sd_bnd (sd_put 4 13 .boolean a0 (.int 1)) fun _ =>
    fX5_itsSeat_b18 G a0 a1 a2)
  else (
    fX5_itsSeat_b18 G a0 a1 a2)
set_option maxHeartbeats 4000000 in
theorem sX5_itsSeat (l : Launch) (G : sd_G) (a0 : Nat) (a1 : Nat) (a2 : Int32) (h : sd_H) (ρ : Int32) (cT : Nat × Nat) (h2 : sd_H) (hf : fX5_itsSeat G a0 a1 a2 h = some (ρ, cT, h2)) : sd_Met mX5_itsSeat ((l, G), (0, 0), [.ref a0, .ref a1, .int a2], (sd_oI ρ, h2), cT) h := by
  refine sd_entry (plainFor_of_name rfl) rfl (Nat.le_of_ble_eq_true rfl) ?_
  show sd_J mX5_itsSeat ((l, G), (0, 0), [.ref a0, .ref a1, .int a2], (sd_oI ρ, h2), cT) 0 [(0, .ref a0), (1, .ref a1), (2, .int a2)] [] h cT
  unfold fX5_itsSeat at hf
  refine sj_aload_n 0 dX5_itsSeat_0 rfl ?_
  refine sj_getR fdX5_24_4 hf dX5_itsSeat_1 (fun v1 hf => ?_)
  refine sj_iload_n 2 dX5_itsSeat_4 rfl ?_
  refine sj_iconst (v := 2) dX5_itsSeat_5 (by decide) ?_
  refine sj_isub dX5_itsSeat_6 ?_
  refine sj_iald hf dX5_itsSeat_7 (fun v2 hf => ?_)
  refine sj_bipush (v := 7) dX5_itsSeat_8 (by decide) ?_
  refine sj_icne 18 hf dX5_itsSeat_10 (by decide) (fun g10 hf => ?_) (fun g10 hf => ?_)
  · exact sj_loc [0, 1, 2] rfl (sX5_itsSeat_b18 l G a0 a1 a2 ρ h2 cT a0 a1 a2 _ _ hf)
  · refine sj_aload_n 0 dX5_itsSeat_13 rfl ?_
    refine sj_iconst (v := 1) dX5_itsSeat_14 (by decide) ?_
    refine sj_put (fpX5_337_4 _ _) hf dX5_itsSeat_15 (fun h hf => ?_)
    exact sj_loc [0, 1, 2] rfl (sX5_itsSeat_b18 l G a0 a1 a2 ρ h2 cT a0 a1 a2 _ _ hf)
/-! SofaDigModel.itsStratum(LSofaDigModel$Plan;J)I -/
abbrev cX5_itsStratum : ByteArray := prog_46_method_74_code
def yX5_itsStratum : MethodName := ⟨RX5, "itsStratum", "(LSofaDigModel$Plan;J)I"⟩
def dkwX5_itsStratum_4 : List UInt8 := [100, 21, 4, 79, 3, 172]
abbrev dktX5_itsStratum_4 : List UInt8 := dkwX5_itsStratum_4 ++ []
def dkwX5_itsStratum_3 : List UInt8 := [3, 172, 43, 180, 0, 100, 21, 4, 43, 180, 0, 65, 4, 100, 79, 43, 180, 0, 110, 43, 180, 0, 65, 4]
abbrev dktX5_itsStratum_3 : List UInt8 := dkwX5_itsStratum_3 ++ dktX5_itsStratum_4
def dkwX5_itsStratum_2 : List UInt8 := [21, 4, 46, 2, 159, 0, 5, 5, 172, 42, 180, 1, 81, 153, 0, 13, 43, 180, 0, 85, 21, 4, 4, 84]
abbrev dktX5_itsStratum_2 : List UInt8 := dkwX5_itsStratum_2 ++ dktX5_itsStratum_3
def dkwX5_itsStratum_1 : List UInt8 := [42, 180, 1, 81, 153, 0, 16, 43, 180, 0, 85, 21, 4, 51, 153, 0, 19, 167, 0, 14, 43, 180, 0, 100]
abbrev dktX5_itsStratum_1 : List UInt8 := dkwX5_itsStratum_1 ++ dktX5_itsStratum_2
def dkwX5_itsStratum_0 : List UInt8 := [32, 43, 180, 0, 55, 133, 148, 155, 0, 5, 8, 172, 16, 10, 42, 180, 1, 85, 104, 32, 136, 96, 54, 4]
abbrev dktX5_itsStratum_0 : List UInt8 := dkwX5_itsStratum_0 ++ dktX5_itsStratum_1
theorem dksX5_itsStratum_0 : cX5_itsStratum.data.toList.drop 0 = dktX5_itsStratum_0 := by decide +kernel
theorem dksX5_itsStratum_1 : cX5_itsStratum.data.toList.drop 24 = dktX5_itsStratum_1 := dk_seg dksX5_itsStratum_0 24 rfl rfl
theorem dksX5_itsStratum_2 : cX5_itsStratum.data.toList.drop 48 = dktX5_itsStratum_2 := dk_seg dksX5_itsStratum_1 24 rfl rfl
theorem dksX5_itsStratum_3 : cX5_itsStratum.data.toList.drop 72 = dktX5_itsStratum_3 := dk_seg dksX5_itsStratum_2 24 rfl rfl
theorem dksX5_itsStratum_4 : cX5_itsStratum.data.toList.drop 96 = dktX5_itsStratum_4 := dk_seg dksX5_itsStratum_3 24 rfl rfl
theorem dX5_itsStratum_0 : decode cX5_itsStratum 0 = .ok (.lload_n 2, 1) := dk_32 (dk_at dksX5_itsStratum_0 0 rfl rfl)
theorem dX5_itsStratum_1 : decode cX5_itsStratum 1 = .ok (.aload_n 1, 1) := dk_43 (dk_at dksX5_itsStratum_0 1 rfl rfl)
theorem dX5_itsStratum_2 : decode cX5_itsStratum 2 = .ok (.getfield 55, 3) := dk_180 0 55 (dk_at dksX5_itsStratum_0 2 rfl rfl)
theorem dX5_itsStratum_5 : decode cX5_itsStratum 5 = .ok (.i2l, 1) := dk_133 (dk_at dksX5_itsStratum_0 5 rfl rfl)
theorem dX5_itsStratum_6 : decode cX5_itsStratum 6 = .ok (.lcmp, 1) := dk_148 (dk_at dksX5_itsStratum_0 6 rfl rfl)
theorem dX5_itsStratum_7 : decode cX5_itsStratum 7 = .ok (.ifCond .lt 5, 3) := dk_155 0 5 (dk_at dksX5_itsStratum_0 7 rfl rfl)
theorem dX5_itsStratum_10 : decode cX5_itsStratum 10 = .ok (.iconst 5, 1) := dk_8 (dk_at dksX5_itsStratum_0 10 rfl rfl)
theorem dX5_itsStratum_11 : decode cX5_itsStratum 11 = .ok (.ireturn, 1) := dk_172 (dk_at dksX5_itsStratum_0 11 rfl rfl)
theorem dX5_itsStratum_12 : decode cX5_itsStratum 12 = .ok (.bipush 10, 2) := dk_16 10 (dk_at dksX5_itsStratum_0 12 rfl rfl)
theorem dX5_itsStratum_14 : decode cX5_itsStratum 14 = .ok (.aload_n 0, 1) := dk_42 (dk_at dksX5_itsStratum_0 14 rfl rfl)
theorem dX5_itsStratum_15 : decode cX5_itsStratum 15 = .ok (.getfield 341, 3) := dk_180 1 85 (dk_at dksX5_itsStratum_0 15 rfl rfl)
theorem dX5_itsStratum_18 : decode cX5_itsStratum 18 = .ok (.imul, 1) := dk_104 (dk_at dksX5_itsStratum_0 18 rfl rfl)
theorem dX5_itsStratum_19 : decode cX5_itsStratum 19 = .ok (.lload_n 2, 1) := dk_32 (dk_at dksX5_itsStratum_0 19 rfl rfl)
theorem dX5_itsStratum_20 : decode cX5_itsStratum 20 = .ok (.l2i, 1) := dk_136 (dk_at dksX5_itsStratum_0 20 rfl rfl)
theorem dX5_itsStratum_21 : decode cX5_itsStratum 21 = .ok (.iadd, 1) := dk_96 (dk_at dksX5_itsStratum_0 21 rfl rfl)
theorem dX5_itsStratum_22 : decode cX5_itsStratum 22 = .ok (.istore 4, 2) := dk_54 4 (dk_at dksX5_itsStratum_0 22 rfl rfl)
theorem dX5_itsStratum_24 : decode cX5_itsStratum 24 = .ok (.aload_n 0, 1) := dk_42 (dk_at dksX5_itsStratum_1 0 rfl rfl)
theorem dX5_itsStratum_25 : decode cX5_itsStratum 25 = .ok (.getfield 337, 3) := dk_180 1 81 (dk_at dksX5_itsStratum_1 1 rfl rfl)
theorem dX5_itsStratum_28 : decode cX5_itsStratum 28 = .ok (.ifCond .eq 16, 3) := dk_153 0 16 (dk_at dksX5_itsStratum_1 4 rfl rfl)
theorem dX5_itsStratum_31 : decode cX5_itsStratum 31 = .ok (.aload_n 1, 1) := dk_43 (dk_at dksX5_itsStratum_1 7 rfl rfl)
theorem dX5_itsStratum_32 : decode cX5_itsStratum 32 = .ok (.getfield 85, 3) := dk_180 0 85 (dk_at dksX5_itsStratum_1 8 rfl rfl)
theorem dX5_itsStratum_35 : decode cX5_itsStratum 35 = .ok (.iload 4, 2) := dk_21 4 (dk_at dksX5_itsStratum_1 11 rfl rfl)
theorem dX5_itsStratum_37 : decode cX5_itsStratum 37 = .ok (.baload, 1) := dk_51 (dk_at dksX5_itsStratum_1 13 rfl rfl)
theorem dX5_itsStratum_38 : decode cX5_itsStratum 38 = .ok (.ifCond .eq 19, 3) := dk_153 0 19 (dk_at dksX5_itsStratum_1 14 rfl rfl)
theorem dX5_itsStratum_41 : decode cX5_itsStratum 41 = .ok (.goto 14, 3) := dk_167 0 14 (dk_at dksX5_itsStratum_1 17 rfl rfl)
theorem dX5_itsStratum_44 : decode cX5_itsStratum 44 = .ok (.aload_n 1, 1) := dk_43 (dk_at dksX5_itsStratum_1 20 rfl rfl)
theorem dX5_itsStratum_45 : decode cX5_itsStratum 45 = .ok (.getfield 100, 3) := dk_180 0 100 (dk_at dksX5_itsStratum_1 21 rfl rfl)
theorem dX5_itsStratum_48 : decode cX5_itsStratum 48 = .ok (.iload 4, 2) := dk_21 4 (dk_at dksX5_itsStratum_2 0 rfl rfl)
theorem dX5_itsStratum_50 : decode cX5_itsStratum 50 = .ok (.iaload, 1) := dk_46 (dk_at dksX5_itsStratum_2 2 rfl rfl)
theorem dX5_itsStratum_51 : decode cX5_itsStratum 51 = .ok (.iconst (-1), 1) := dk_2 (dk_at dksX5_itsStratum_2 3 rfl rfl)
theorem dX5_itsStratum_52 : decode cX5_itsStratum 52 = .ok (.if_icmp .eq 5, 3) := dk_159 0 5 (dk_at dksX5_itsStratum_2 4 rfl rfl)
theorem dX5_itsStratum_55 : decode cX5_itsStratum 55 = .ok (.iconst 2, 1) := dk_5 (dk_at dksX5_itsStratum_2 7 rfl rfl)
theorem dX5_itsStratum_56 : decode cX5_itsStratum 56 = .ok (.ireturn, 1) := dk_172 (dk_at dksX5_itsStratum_2 8 rfl rfl)
theorem dX5_itsStratum_57 : decode cX5_itsStratum 57 = .ok (.aload_n 0, 1) := dk_42 (dk_at dksX5_itsStratum_2 9 rfl rfl)
theorem dX5_itsStratum_58 : decode cX5_itsStratum 58 = .ok (.getfield 337, 3) := dk_180 1 81 (dk_at dksX5_itsStratum_2 10 rfl rfl)
theorem dX5_itsStratum_61 : decode cX5_itsStratum 61 = .ok (.ifCond .eq 13, 3) := dk_153 0 13 (dk_at dksX5_itsStratum_2 13 rfl rfl)
theorem dX5_itsStratum_64 : decode cX5_itsStratum 64 = .ok (.aload_n 1, 1) := dk_43 (dk_at dksX5_itsStratum_2 16 rfl rfl)
theorem dX5_itsStratum_65 : decode cX5_itsStratum 65 = .ok (.getfield 85, 3) := dk_180 0 85 (dk_at dksX5_itsStratum_2 17 rfl rfl)
theorem dX5_itsStratum_68 : decode cX5_itsStratum 68 = .ok (.iload 4, 2) := dk_21 4 (dk_at dksX5_itsStratum_2 20 rfl rfl)
theorem dX5_itsStratum_70 : decode cX5_itsStratum 70 = .ok (.iconst 1, 1) := dk_4 (dk_at dksX5_itsStratum_2 22 rfl rfl)
theorem dX5_itsStratum_71 : decode cX5_itsStratum 71 = .ok (.bastore, 1) := dk_84 (dk_at dksX5_itsStratum_2 23 rfl rfl)
theorem dX5_itsStratum_72 : decode cX5_itsStratum 72 = .ok (.iconst 0, 1) := dk_3 (dk_at dksX5_itsStratum_3 0 rfl rfl)
theorem dX5_itsStratum_73 : decode cX5_itsStratum 73 = .ok (.ireturn, 1) := dk_172 (dk_at dksX5_itsStratum_3 1 rfl rfl)
theorem dX5_itsStratum_74 : decode cX5_itsStratum 74 = .ok (.aload_n 1, 1) := dk_43 (dk_at dksX5_itsStratum_3 2 rfl rfl)
theorem dX5_itsStratum_75 : decode cX5_itsStratum 75 = .ok (.getfield 100, 3) := dk_180 0 100 (dk_at dksX5_itsStratum_3 3 rfl rfl)
theorem dX5_itsStratum_78 : decode cX5_itsStratum 78 = .ok (.iload 4, 2) := dk_21 4 (dk_at dksX5_itsStratum_3 6 rfl rfl)
theorem dX5_itsStratum_80 : decode cX5_itsStratum 80 = .ok (.aload_n 1, 1) := dk_43 (dk_at dksX5_itsStratum_3 8 rfl rfl)
theorem dX5_itsStratum_81 : decode cX5_itsStratum 81 = .ok (.getfield 65, 3) := dk_180 0 65 (dk_at dksX5_itsStratum_3 9 rfl rfl)
theorem dX5_itsStratum_84 : decode cX5_itsStratum 84 = .ok (.iconst 1, 1) := dk_4 (dk_at dksX5_itsStratum_3 12 rfl rfl)
theorem dX5_itsStratum_85 : decode cX5_itsStratum 85 = .ok (.isub, 1) := dk_100 (dk_at dksX5_itsStratum_3 13 rfl rfl)
theorem dX5_itsStratum_86 : decode cX5_itsStratum 86 = .ok (.iastore, 1) := dk_79 (dk_at dksX5_itsStratum_3 14 rfl rfl)
theorem dX5_itsStratum_87 : decode cX5_itsStratum 87 = .ok (.aload_n 1, 1) := dk_43 (dk_at dksX5_itsStratum_3 15 rfl rfl)
theorem dX5_itsStratum_88 : decode cX5_itsStratum 88 = .ok (.getfield 110, 3) := dk_180 0 110 (dk_at dksX5_itsStratum_3 16 rfl rfl)
theorem dX5_itsStratum_91 : decode cX5_itsStratum 91 = .ok (.aload_n 1, 1) := dk_43 (dk_at dksX5_itsStratum_3 19 rfl rfl)
theorem dX5_itsStratum_92 : decode cX5_itsStratum 92 = .ok (.getfield 65, 3) := dk_180 0 65 (dk_at dksX5_itsStratum_3 20 rfl rfl)
theorem dX5_itsStratum_95 : decode cX5_itsStratum 95 = .ok (.iconst 1, 1) := dk_4 (dk_at dksX5_itsStratum_3 23 rfl rfl)
theorem dX5_itsStratum_96 : decode cX5_itsStratum 96 = .ok (.isub, 1) := dk_100 (dk_at dksX5_itsStratum_4 0 rfl rfl)
theorem dX5_itsStratum_97 : decode cX5_itsStratum 97 = .ok (.iload 4, 2) := dk_21 4 (dk_at dksX5_itsStratum_4 1 rfl rfl)
theorem dX5_itsStratum_99 : decode cX5_itsStratum 99 = .ok (.iastore, 1) := dk_79 (dk_at dksX5_itsStratum_4 3 rfl rfl)
theorem dX5_itsStratum_100 : decode cX5_itsStratum 100 = .ok (.iconst 0, 1) := dk_3 (dk_at dksX5_itsStratum_4 4 rfl rfl)
theorem dX5_itsStratum_101 : decode cX5_itsStratum 101 = .ok (.ireturn, 1) := dk_172 (dk_at dksX5_itsStratum_4 5 rfl rfl)
theorem fdX5_341_4 : sd_Fd "SofaDigModel" 341 4 14 := ⟨(RX5, TX5, 18), "SofaDigModel", rfl, by decide, rfl, in_X5, Or.inl rfl, Or.inl q2864⟩
theorem fdX5_337_4 : sd_Fd "SofaDigModel" 337 4 13 := ⟨(RX5, TX5, 18), "SofaDigModel", rfl, by decide, rfl, in_X5, Or.inl rfl, Or.inl q2863⟩
theorem fdX5_100_5 : sd_Fd "SofaDigModel" 100 5 10 := ⟨(RX6, TX6, 19), "SofaDigModel$Plan", rfl, by decide, rfl, in_X6, Or.inl rfl, Or.inr ⟨_, q2790⟩⟩
theorem fdX5_110_5 : sd_Fd "SofaDigModel" 110 5 8 := ⟨(RX6, TX6, 19), "SofaDigModel$Plan", rfl, by decide, rfl, in_X6, Or.inl rfl, Or.inr ⟨_, q2786⟩⟩
theorem fdX5_85_5 : sd_Fd "SofaDigModel" 85 5 11 := ⟨(RX6, TX6, 19), "SofaDigModel$Plan", rfl, by decide, rfl, in_X6, Or.inl rfl, Or.inr ⟨_, q2792⟩⟩
abbrev mX5_itsStratum : sd_Y := (yX5_itsStratum, cX5_itsStratum, 5, some (.int), none)
def fX5_itsStratum_b57 (G : sd_G) (w0 : Nat) (w1 : Nat) (w4 : Int32) : sd_M Int32 :=
  sd_bnd (sd_getI G 4 13 w0) fun v7 =>
  if v7 = 0 then (
    sd_bnd (sd_getR G 5 10 w1) fun v8 =>
    sd_bnd (sd_getI G 5 6 w1) fun v9 =>
    sd_bnd (sd_astI 0 v8 w4 (v9 - 1)) fun _ =>
    sd_bnd (sd_getR G 5 8 w1) fun v10 =>
    sd_bnd (sd_getI G 5 6 w1) fun v11 =>
    sd_bnd (sd_astI 0 v10 (v11 - 1) w4) fun _ =>
    sd_ret 0)
  else (
    sd_bnd (sd_getR G 5 11 w1) fun v12 =>
    sd_bnd (sd_astI 3 v12 w4 1) fun _ =>
    sd_ret 0)
set_option maxHeartbeats 4000000 in
theorem sX5_itsStratum_b57 (l : Launch) (G : sd_G) (a0 : Nat) (a1 : Nat) (a2 : Int64) (ρ : Int32) (h2 : sd_H) (cT : Nat × Nat) (w0 : Nat) (w1 : Nat) (w4 : Int32) (h : sd_H) (c : Nat × Nat) (hf : fX5_itsStratum_b57 G w0 w1 w4 h = some (ρ, c, h2)) : sd_J mX5_itsStratum ((l, G), (0, 0), [.ref a0, .ref a1, .long a2], (sd_oI ρ, h2), cT) 57 [(0, .ref w0), (1, .ref w1), (4, .int w4)] [] h c := by
  unfold fX5_itsStratum_b57 at hf
  refine sj_aload_n 0 dX5_itsStratum_57 rfl ?_
  refine sj_getI fdX5_337_4 hf dX5_itsStratum_58 (fun v7 hf => ?_)
  refine sj_ifeq 74 hf dX5_itsStratum_61 (by decide) (fun g61 hf => ?_) (fun g61 hf => ?_)
  · refine sj_aload_n 1 dX5_itsStratum_74 rfl ?_
    refine sj_getR fdX5_100_5 hf dX5_itsStratum_75 (fun v8 hf => ?_)
    refine sj_iload 2 dX5_itsStratum_78 rfl ?_
    refine sj_aload_n 1 dX5_itsStratum_80 rfl ?_
    refine sj_getI fdX5_65_5 hf dX5_itsStratum_81 (fun v9 hf => ?_)
    refine sj_iconst (v := 1) dX5_itsStratum_84 (by decide) ?_
    refine sj_isub dX5_itsStratum_85 ?_
    refine sj_iast hf dX5_itsStratum_86 (fun h hf => ?_)
    refine sj_aload_n 1 dX5_itsStratum_87 rfl ?_
    refine sj_getR fdX5_110_5 hf dX5_itsStratum_88 (fun v10 hf => ?_)
    refine sj_aload_n 1 dX5_itsStratum_91 rfl ?_
    refine sj_getI fdX5_65_5 hf dX5_itsStratum_92 (fun v11 hf => ?_)
    refine sj_iconst (v := 1) dX5_itsStratum_95 (by decide) ?_
    refine sj_isub dX5_itsStratum_96 ?_
    refine sj_iload 2 dX5_itsStratum_97 rfl ?_
    refine sj_iast hf dX5_itsStratum_99 (fun h hf => ?_)
    refine sj_iconst (v := 0) dX5_itsStratum_100 (by decide) ?_
    exact sj_iret (o := sd_oI) hf rfl rfl rfl dX5_itsStratum_101
  · refine sj_aload_n 1 dX5_itsStratum_64 rfl ?_
    refine sj_getR fdX5_85_5 hf dX5_itsStratum_65 (fun v12 hf => ?_)
    refine sj_iload 2 dX5_itsStratum_68 rfl ?_
    refine sj_iconst (v := 1) dX5_itsStratum_70 (by decide) ?_
    refine sj_zast hf dX5_itsStratum_71 (fun h hf => ?_)
    refine sj_iconst (v := 0) dX5_itsStratum_72 (by decide) ?_
    exact sj_iret (o := sd_oI) hf rfl rfl rfl dX5_itsStratum_73
def fX5_itsStratum (G : sd_G) (a0 : Nat) (a1 : Nat) (a2 : Int64) : sd_M Int32 :=
  sd_bnd (sd_getI G 5 1 a1) fun v1 =>
  if (lg_cmp a2 (v1.toInt64)) < 0 then (
    sd_bnd (sd_getI G 4 14 a0) fun v2 =>
    sd_bnd (sd_ret (((10 : Int32) * v2) + (a2.toInt32))) fun x3 =>
    sd_bnd (sd_getI G 4 13 a0) fun v4 =>
    if v4 = 0 then (
      sd_bnd (sd_getR G 5 10 a1) fun v5 =>
      sd_bnd (sd_aldI G 0 v5 x3) fun v6 =>
      if v6 = (-1) then (
        fX5_itsStratum_b57 G a0 a1 x3)
      else (
        sd_ret 2))
    else (
      sd_bnd (sd_getR G 5 11 a1) fun v13 =>
      sd_bnd (sd_aldI G 3 v13 x3) fun v14 =>
      if v14 = 0 then (
        fX5_itsStratum_b57 G a0 a1 x3)
      else (
        sd_ret 2)))
  else (
    sd_ret 5)
set_option maxHeartbeats 4000000 in
theorem sX5_itsStratum (l : Launch) (G : sd_G) (a0 : Nat) (a1 : Nat) (a2 : Int64) (h : sd_H) (ρ : Int32) (cT : Nat × Nat) (h2 : sd_H) (hf : fX5_itsStratum G a0 a1 a2 h = some (ρ, cT, h2)) : sd_Met mX5_itsStratum ((l, G), (0, 0), [.ref a0, .ref a1, .long a2], (sd_oI ρ, h2), cT) h := by
  refine sd_entry (plainFor_of_name rfl) rfl (Nat.le_of_ble_eq_true rfl) ?_
  show sd_J mX5_itsStratum ((l, G), (0, 0), [.ref a0, .ref a1, .long a2], (sd_oI ρ, h2), cT) 0 [(0, .ref a0), (1, .ref a1), (2, .long a2)] [] h cT
  unfold fX5_itsStratum at hf
  refine sj_lload_n 2 dX5_itsStratum_0 rfl ?_
  refine sj_aload_n 1 dX5_itsStratum_1 rfl ?_
  refine sj_getI fdX5_55_5 hf dX5_itsStratum_2 (fun v1 hf => ?_)
  refine sj_i2l dX5_itsStratum_5 ?_
  refine sj_lcmp dX5_itsStratum_6 ?_
  refine sj_iflt 12 hf dX5_itsStratum_7 (by decide) (fun g7 hf => ?_) (fun g7 hf => ?_)
  · refine sj_bipush (v := 10) dX5_itsStratum_12 (by decide) ?_
    refine sj_aload_n 0 dX5_itsStratum_14 rfl ?_
    refine sj_getI fdX5_341_4 hf dX5_itsStratum_15 (fun v2 hf => ?_)
    refine sj_imul dX5_itsStratum_18 ?_
    refine sj_lload_n 2 dX5_itsStratum_19 rfl ?_
    refine sj_l2i dX5_itsStratum_20 ?_
    refine sj_iadd dX5_itsStratum_21 ?_
    refine sj_nameI hf (fun x3 hf => ?_)
    refine sj_istore [(4, .int x3), (0, .ref a0), (1, .ref a1), (2, .long a2)] dX5_itsStratum_22 (by decide) rfl ?_
    refine sj_aload_n 1 dX5_itsStratum_24 rfl ?_
    refine sj_getI fdX5_337_4 hf dX5_itsStratum_25 (fun v4 hf => ?_)
    refine sj_ifeq 44 hf dX5_itsStratum_28 (by decide) (fun g28 hf => ?_) (fun g28 hf => ?_)
    · refine sj_aload_n 2 dX5_itsStratum_44 rfl ?_
      refine sj_getR fdX5_100_5 hf dX5_itsStratum_45 (fun v5 hf => ?_)
      refine sj_iload 0 dX5_itsStratum_48 rfl ?_
      refine sj_iald hf dX5_itsStratum_50 (fun v6 hf => ?_)
      refine sj_iconst (v := (-1)) dX5_itsStratum_51 (by decide) ?_
      refine sj_iceq 57 hf dX5_itsStratum_52 (by decide) (fun g52 hf => ?_) (fun g52 hf => ?_)
      · exact sj_loc [1, 2, 0] rfl (sX5_itsStratum_b57 l G a0 a1 a2 ρ h2 cT a0 a1 x3 _ _ hf)
      · refine sj_iconst (v := 2) dX5_itsStratum_55 (by decide) ?_
        exact sj_iret (o := sd_oI) hf rfl rfl rfl dX5_itsStratum_56
    · refine sj_aload_n 2 dX5_itsStratum_31 rfl ?_
      refine sj_getR fdX5_85_5 hf dX5_itsStratum_32 (fun v13 hf => ?_)
      refine sj_iload 0 dX5_itsStratum_35 rfl ?_
      refine sj_zald hf dX5_itsStratum_37 (fun v14 hf => ?_)
      refine sj_ifeq 57 hf dX5_itsStratum_38 (by decide) (fun g38 hf => ?_) (fun g38 hf => ?_)
      · exact sj_loc [1, 2, 0] rfl (sX5_itsStratum_b57 l G a0 a1 a2 ρ h2 cT a0 a1 x3 _ _ hf)
      · refine sj_goto 55 dX5_itsStratum_41 (by decide) ?_
        refine sj_iconst (v := 2) dX5_itsStratum_55 (by decide) ?_
        exact sj_iret (o := sd_oI) hf rfl rfl rfl dX5_itsStratum_56
  · refine sj_iconst (v := 5) dX5_itsStratum_10 (by decide) ?_
    exact sj_iret (o := sd_oI) hf rfl rfl rfl dX5_itsStratum_11
/-! SofaDigModel.itsYear(LSofaDigModel$Plan;J)I -/
abbrev cX5_itsYear : ByteArray := prog_46_method_75_code
def yX5_itsYear : MethodName := ⟨RX5, "itsYear", "(LSofaDigModel$Plan;J)I"⟩
def dkwX5_itsYear_1 : List UInt8 := [172]
abbrev dktX5_itsYear_1 : List UInt8 := dkwX5_itsYear_1 ++ []
def dkwX5_itsYear_0 : List UInt8 := [32, 20, 1, 79, 148, 158, 0, 5, 8, 172, 43, 180, 0, 122, 43, 180, 0, 65, 4, 100, 32, 136, 79, 3]
abbrev dktX5_itsYear_0 : List UInt8 := dkwX5_itsYear_0 ++ dktX5_itsYear_1
theorem dksX5_itsYear_0 : cX5_itsYear.data.toList.drop 0 = dktX5_itsYear_0 := by decide +kernel
theorem dksX5_itsYear_1 : cX5_itsYear.data.toList.drop 24 = dktX5_itsYear_1 := dk_seg dksX5_itsYear_0 24 rfl rfl
theorem dX5_itsYear_0 : decode cX5_itsYear 0 = .ok (.lload_n 2, 1) := dk_32 (dk_at dksX5_itsYear_0 0 rfl rfl)
theorem dX5_itsYear_1 : decode cX5_itsYear 1 = .ok (.ldc2_w 335, 3) := dk_20 1 79 (dk_at dksX5_itsYear_0 1 rfl rfl)
theorem dX5_itsYear_4 : decode cX5_itsYear 4 = .ok (.lcmp, 1) := dk_148 (dk_at dksX5_itsYear_0 4 rfl rfl)
theorem dX5_itsYear_5 : decode cX5_itsYear 5 = .ok (.ifCond .le 5, 3) := dk_158 0 5 (dk_at dksX5_itsYear_0 5 rfl rfl)
theorem dX5_itsYear_8 : decode cX5_itsYear 8 = .ok (.iconst 5, 1) := dk_8 (dk_at dksX5_itsYear_0 8 rfl rfl)
theorem dX5_itsYear_9 : decode cX5_itsYear 9 = .ok (.ireturn, 1) := dk_172 (dk_at dksX5_itsYear_0 9 rfl rfl)
theorem dX5_itsYear_10 : decode cX5_itsYear 10 = .ok (.aload_n 1, 1) := dk_43 (dk_at dksX5_itsYear_0 10 rfl rfl)
theorem dX5_itsYear_11 : decode cX5_itsYear 11 = .ok (.getfield 122, 3) := dk_180 0 122 (dk_at dksX5_itsYear_0 11 rfl rfl)
theorem dX5_itsYear_14 : decode cX5_itsYear 14 = .ok (.aload_n 1, 1) := dk_43 (dk_at dksX5_itsYear_0 14 rfl rfl)
theorem dX5_itsYear_15 : decode cX5_itsYear 15 = .ok (.getfield 65, 3) := dk_180 0 65 (dk_at dksX5_itsYear_0 15 rfl rfl)
theorem dX5_itsYear_18 : decode cX5_itsYear 18 = .ok (.iconst 1, 1) := dk_4 (dk_at dksX5_itsYear_0 18 rfl rfl)
theorem dX5_itsYear_19 : decode cX5_itsYear 19 = .ok (.isub, 1) := dk_100 (dk_at dksX5_itsYear_0 19 rfl rfl)
theorem dX5_itsYear_20 : decode cX5_itsYear 20 = .ok (.lload_n 2, 1) := dk_32 (dk_at dksX5_itsYear_0 20 rfl rfl)
theorem dX5_itsYear_21 : decode cX5_itsYear 21 = .ok (.l2i, 1) := dk_136 (dk_at dksX5_itsYear_0 21 rfl rfl)
theorem dX5_itsYear_22 : decode cX5_itsYear 22 = .ok (.iastore, 1) := dk_79 (dk_at dksX5_itsYear_0 22 rfl rfl)
theorem dX5_itsYear_23 : decode cX5_itsYear 23 = .ok (.iconst 0, 1) := dk_3 (dk_at dksX5_itsYear_0 23 rfl rfl)
theorem dX5_itsYear_24 : decode cX5_itsYear 24 = .ok (.ireturn, 1) := dk_172 (dk_at dksX5_itsYear_1 0 rfl rfl)
theorem fdX5_122_5 : sd_Fd "SofaDigModel" 122 5 9 := ⟨(RX6, TX6, 19), "SofaDigModel$Plan", rfl, by decide, rfl, in_X6, Or.inl rfl, Or.inr ⟨_, q2788⟩⟩
abbrev mX5_itsYear : sd_Y := (yX5_itsYear, cX5_itsYear, 4, some (.int), none)
def fX5_itsYear (G : sd_G) (a0 : Nat) (a1 : Nat) (a2 : Int64) : sd_M Int32 :=
  if (lg_cmp a2 999) ≤ 0 then (
    sd_bnd (sd_getR G 5 9 a1) fun v1 =>
    sd_bnd (sd_getI G 5 6 a1) fun v2 =>
    sd_bnd (sd_astI 0 v1 (v2 - 1) (a2.toInt32)) fun _ =>
    sd_ret 0)
  else (
    sd_ret 5)
set_option maxHeartbeats 4000000 in
theorem sX5_itsYear (l : Launch) (G : sd_G) (a0 : Nat) (a1 : Nat) (a2 : Int64) (h : sd_H) (ρ : Int32) (cT : Nat × Nat) (h2 : sd_H) (hf : fX5_itsYear G a0 a1 a2 h = some (ρ, cT, h2)) : sd_Met mX5_itsYear ((l, G), (0, 0), [.ref a0, .ref a1, .long a2], (sd_oI ρ, h2), cT) h := by
  refine sd_entry (plainFor_of_name rfl) rfl (Nat.le_of_ble_eq_true rfl) ?_
  show sd_J mX5_itsYear ((l, G), (0, 0), [.ref a0, .ref a1, .long a2], (sd_oI ρ, h2), cT) 0 [(0, .ref a0), (1, .ref a1), (2, .long a2)] [] h cT
  unfold fX5_itsYear at hf
  refine sj_lload_n 2 dX5_itsYear_0 rfl ?_
  refine sj_ldc2 q3080 dX5_itsYear_1 ?_
  refine sj_lcmp dX5_itsYear_4 ?_
  refine sj_ifle 10 hf dX5_itsYear_5 (by decide) (fun g5 hf => ?_) (fun g5 hf => ?_)
  · refine sj_aload_n 1 dX5_itsYear_10 rfl ?_
    refine sj_getR fdX5_122_5 hf dX5_itsYear_11 (fun v1 hf => ?_)
    refine sj_aload_n 1 dX5_itsYear_14 rfl ?_
    refine sj_getI fdX5_65_5 hf dX5_itsYear_15 (fun v2 hf => ?_)
    refine sj_iconst (v := 1) dX5_itsYear_18 (by decide) ?_
    refine sj_isub dX5_itsYear_19 ?_
    refine sj_lload_n 2 dX5_itsYear_20 rfl ?_
    refine sj_l2i dX5_itsYear_21 ?_
    refine sj_iast hf dX5_itsYear_22 (fun h hf => ?_)
    refine sj_iconst (v := 0) dX5_itsYear_23 (by decide) ?_
    exact sj_iret (o := sd_oI) hf rfl rfl rfl dX5_itsYear_24
  · refine sj_iconst (v := 5) dX5_itsYear_8 (by decide) ?_
    exact sj_iret (o := sd_oI) hf rfl rfl rfl dX5_itsYear_9
/-! SofaDigModel.newOrder(LSofaDigModel$Plan;)I -/
abbrev cX5_newOrder : ByteArray := prog_46_method_77_code
def yX5_newOrder : MethodName := ⟨RX5, "newOrder", "(LSofaDigModel$Plan;)I"⟩
def dkwX5_newOrder_0 : List UInt8 := [43, 180, 0, 167, 16, 16, 160, 0, 5, 7, 172, 43, 89, 180, 0, 167, 4, 96, 181, 0, 167, 3, 172]
abbrev dktX5_newOrder_0 : List UInt8 := dkwX5_newOrder_0 ++ []
theorem dksX5_newOrder_0 : cX5_newOrder.data.toList.drop 0 = dktX5_newOrder_0 := by decide +kernel
theorem dX5_newOrder_0 : decode cX5_newOrder 0 = .ok (.aload_n 1, 1) := dk_43 (dk_at dksX5_newOrder_0 0 rfl rfl)
theorem dX5_newOrder_1 : decode cX5_newOrder 1 = .ok (.getfield 167, 3) := dk_180 0 167 (dk_at dksX5_newOrder_0 1 rfl rfl)
theorem dX5_newOrder_4 : decode cX5_newOrder 4 = .ok (.bipush 16, 2) := dk_16 16 (dk_at dksX5_newOrder_0 4 rfl rfl)
theorem dX5_newOrder_6 : decode cX5_newOrder 6 = .ok (.if_icmp .ne 5, 3) := dk_160 0 5 (dk_at dksX5_newOrder_0 6 rfl rfl)
theorem dX5_newOrder_9 : decode cX5_newOrder 9 = .ok (.iconst 4, 1) := dk_7 (dk_at dksX5_newOrder_0 9 rfl rfl)
theorem dX5_newOrder_10 : decode cX5_newOrder 10 = .ok (.ireturn, 1) := dk_172 (dk_at dksX5_newOrder_0 10 rfl rfl)
theorem dX5_newOrder_11 : decode cX5_newOrder 11 = .ok (.aload_n 1, 1) := dk_43 (dk_at dksX5_newOrder_0 11 rfl rfl)
theorem dX5_newOrder_12 : decode cX5_newOrder 12 = .ok (.dup, 1) := dk_89 (dk_at dksX5_newOrder_0 12 rfl rfl)
theorem dX5_newOrder_13 : decode cX5_newOrder 13 = .ok (.getfield 167, 3) := dk_180 0 167 (dk_at dksX5_newOrder_0 13 rfl rfl)
theorem dX5_newOrder_16 : decode cX5_newOrder 16 = .ok (.iconst 1, 1) := dk_4 (dk_at dksX5_newOrder_0 16 rfl rfl)
theorem dX5_newOrder_17 : decode cX5_newOrder 17 = .ok (.iadd, 1) := dk_96 (dk_at dksX5_newOrder_0 17 rfl rfl)
theorem dX5_newOrder_18 : decode cX5_newOrder 18 = .ok (.putfield 167, 3) := dk_181 0 167 (dk_at dksX5_newOrder_0 18 rfl rfl)
theorem dX5_newOrder_21 : decode cX5_newOrder 21 = .ok (.iconst 0, 1) := dk_3 (dk_at dksX5_newOrder_0 21 rfl rfl)
theorem dX5_newOrder_22 : decode cX5_newOrder 22 = .ok (.ireturn, 1) := dk_172 (dk_at dksX5_newOrder_0 22 rfl rfl)
theorem fdX5_167_5 : sd_Fd "SofaDigModel" 167 5 12 := ⟨(RX6, TX6, 19), "SofaDigModel$Plan", rfl, by decide, rfl, in_X6, Or.inl rfl, Or.inr ⟨_, q2793⟩⟩
theorem fpX5_167_5 (n d : String) : sd_Fp ⟨"SofaDigModel", n, d⟩ 167 5 12 .int := ⟨(RX6, TX6, 19), "SofaDigModel$Plan", tyX6, rfl, by decide, rfl, in_X6, Or.inl rfl, tyX6_ok, nmX6, rfl, Or.inl ⟨rfl, Or.inr ⟨_, q2793⟩⟩⟩
abbrev mX5_newOrder : sd_Y := (yX5_newOrder, cX5_newOrder, 2, some (.int), none)
def fX5_newOrder (G : sd_G) (a0 : Nat) (a1 : Nat) : sd_M Int32 :=
  sd_bnd (sd_getI G 5 12 a1) fun v1 =>
  if v1 = 16 then (
    sd_ret 4)
  else (
    sd_bnd (sd_getI G 5 12 a1) fun v2 =>
    sd_bnd (sd_put 5 12 .int a1 (.int (v2 + 1))) fun _ =>
    sd_ret 0)
set_option maxHeartbeats 4000000 in
theorem sX5_newOrder (l : Launch) (G : sd_G) (a0 : Nat) (a1 : Nat) (h : sd_H) (ρ : Int32) (cT : Nat × Nat) (h2 : sd_H) (hf : fX5_newOrder G a0 a1 h = some (ρ, cT, h2)) : sd_Met mX5_newOrder ((l, G), (0, 0), [.ref a0, .ref a1], (sd_oI ρ, h2), cT) h := by
  refine sd_entry (plainFor_of_name rfl) rfl (Nat.le_of_ble_eq_true rfl) ?_
  show sd_J mX5_newOrder ((l, G), (0, 0), [.ref a0, .ref a1], (sd_oI ρ, h2), cT) 0 [(0, .ref a0), (1, .ref a1)] [] h cT
  unfold fX5_newOrder at hf
  refine sj_aload_n 1 dX5_newOrder_0 rfl ?_
  refine sj_getI fdX5_167_5 hf dX5_newOrder_1 (fun v1 hf => ?_)
  refine sj_bipush (v := 16) dX5_newOrder_4 (by decide) ?_
  refine sj_icne 11 hf dX5_newOrder_6 (by decide) (fun g6 hf => ?_) (fun g6 hf => ?_)
  · refine sj_aload_n 1 dX5_newOrder_11 rfl ?_
    refine sj_dup dX5_newOrder_12 rfl ?_
    refine sj_getI fdX5_167_5 hf dX5_newOrder_13 (fun v2 hf => ?_)
    refine sj_iconst (v := 1) dX5_newOrder_16 (by decide) ?_
    refine sj_iadd dX5_newOrder_17 ?_
    refine sj_put (fpX5_167_5 _ _) hf dX5_newOrder_18 (fun h hf => ?_)
    refine sj_iconst (v := 0) dX5_newOrder_21 (by decide) ?_
    exact sj_iret (o := sd_oI) hf rfl rfl rfl dX5_newOrder_22
  · refine sj_iconst (v := 4) dX5_newOrder_9 (by decide) ?_
    exact sj_iret (o := sd_oI) hf rfl rfl rfl dX5_newOrder_10
/-! SofaDigModel.anEmpire(LSofaDigModel$Plan;I)I -/
abbrev cX5_anEmpire : ByteArray := prog_46_method_76_code
def yX5_anEmpire : MethodName := ⟨RX5, "anEmpire", "(LSofaDigModel$Plan;I)I"⟩
def dkwX5_anEmpire_2 : List UInt8 := [4, 100, 42, 180, 0, 37, 28, 46, 79, 3, 172]
abbrev dktX5_anEmpire_2 : List UInt8 := dkwX5_anEmpire_2 ++ []
def dkwX5_anEmpire_1 : List UInt8 := [160, 0, 5, 6, 172, 42, 180, 0, 30, 28, 46, 16, 10, 160, 0, 20, 43, 180, 0, 122, 43, 180, 0, 65]
abbrev dktX5_anEmpire_1 : List UInt8 := dkwX5_anEmpire_1 ++ dktX5_anEmpire_2
def dkwX5_anEmpire_0 : List UInt8 := [42, 180, 0, 37, 28, 43, 42, 180, 0, 33, 28, 47, 184, 1, 76, 79, 42, 180, 0, 37, 28, 46, 2]
abbrev dktX5_anEmpire_0 : List UInt8 := dkwX5_anEmpire_0 ++ dktX5_anEmpire_1
theorem dksX5_anEmpire_0 : cX5_anEmpire.data.toList.drop 0 = dktX5_anEmpire_0 := by decide +kernel
theorem dksX5_anEmpire_1 : cX5_anEmpire.data.toList.drop 23 = dktX5_anEmpire_1 := dk_seg dksX5_anEmpire_0 23 rfl rfl
theorem dksX5_anEmpire_2 : cX5_anEmpire.data.toList.drop 47 = dktX5_anEmpire_2 := dk_seg dksX5_anEmpire_1 24 rfl rfl
theorem dX5_anEmpire_0 : decode cX5_anEmpire 0 = .ok (.aload_n 0, 1) := dk_42 (dk_at dksX5_anEmpire_0 0 rfl rfl)
theorem dX5_anEmpire_1 : decode cX5_anEmpire 1 = .ok (.getfield 37, 3) := dk_180 0 37 (dk_at dksX5_anEmpire_0 1 rfl rfl)
theorem dX5_anEmpire_4 : decode cX5_anEmpire 4 = .ok (.iload_n 2, 1) := dk_28 (dk_at dksX5_anEmpire_0 4 rfl rfl)
theorem dX5_anEmpire_5 : decode cX5_anEmpire 5 = .ok (.aload_n 1, 1) := dk_43 (dk_at dksX5_anEmpire_0 5 rfl rfl)
theorem dX5_anEmpire_6 : decode cX5_anEmpire 6 = .ok (.aload_n 0, 1) := dk_42 (dk_at dksX5_anEmpire_0 6 rfl rfl)
theorem dX5_anEmpire_7 : decode cX5_anEmpire 7 = .ok (.getfield 33, 3) := dk_180 0 33 (dk_at dksX5_anEmpire_0 7 rfl rfl)
theorem dX5_anEmpire_10 : decode cX5_anEmpire 10 = .ok (.iload_n 2, 1) := dk_28 (dk_at dksX5_anEmpire_0 10 rfl rfl)
theorem dX5_anEmpire_11 : decode cX5_anEmpire 11 = .ok (.laload, 1) := dk_47 (dk_at dksX5_anEmpire_0 11 rfl rfl)
theorem dX5_anEmpire_12 : decode cX5_anEmpire 12 = .ok (.invokestatic 332, 3) := dk_184 1 76 (dk_at dksX5_anEmpire_0 12 rfl rfl)
theorem dX5_anEmpire_15 : decode cX5_anEmpire 15 = .ok (.iastore, 1) := dk_79 (dk_at dksX5_anEmpire_0 15 rfl rfl)
theorem dX5_anEmpire_16 : decode cX5_anEmpire 16 = .ok (.aload_n 0, 1) := dk_42 (dk_at dksX5_anEmpire_0 16 rfl rfl)
theorem dX5_anEmpire_17 : decode cX5_anEmpire 17 = .ok (.getfield 37, 3) := dk_180 0 37 (dk_at dksX5_anEmpire_0 17 rfl rfl)
theorem dX5_anEmpire_20 : decode cX5_anEmpire 20 = .ok (.iload_n 2, 1) := dk_28 (dk_at dksX5_anEmpire_0 20 rfl rfl)
theorem dX5_anEmpire_21 : decode cX5_anEmpire 21 = .ok (.iaload, 1) := dk_46 (dk_at dksX5_anEmpire_0 21 rfl rfl)
theorem dX5_anEmpire_22 : decode cX5_anEmpire 22 = .ok (.iconst (-1), 1) := dk_2 (dk_at dksX5_anEmpire_0 22 rfl rfl)
theorem dX5_anEmpire_23 : decode cX5_anEmpire 23 = .ok (.if_icmp .ne 5, 3) := dk_160 0 5 (dk_at dksX5_anEmpire_1 0 rfl rfl)
theorem dX5_anEmpire_26 : decode cX5_anEmpire 26 = .ok (.iconst 3, 1) := dk_6 (dk_at dksX5_anEmpire_1 3 rfl rfl)
theorem dX5_anEmpire_27 : decode cX5_anEmpire 27 = .ok (.ireturn, 1) := dk_172 (dk_at dksX5_anEmpire_1 4 rfl rfl)
theorem dX5_anEmpire_28 : decode cX5_anEmpire 28 = .ok (.aload_n 0, 1) := dk_42 (dk_at dksX5_anEmpire_1 5 rfl rfl)
theorem dX5_anEmpire_29 : decode cX5_anEmpire 29 = .ok (.getfield 30, 3) := dk_180 0 30 (dk_at dksX5_anEmpire_1 6 rfl rfl)
theorem dX5_anEmpire_32 : decode cX5_anEmpire 32 = .ok (.iload_n 2, 1) := dk_28 (dk_at dksX5_anEmpire_1 9 rfl rfl)
theorem dX5_anEmpire_33 : decode cX5_anEmpire 33 = .ok (.iaload, 1) := dk_46 (dk_at dksX5_anEmpire_1 10 rfl rfl)
theorem dX5_anEmpire_34 : decode cX5_anEmpire 34 = .ok (.bipush 10, 2) := dk_16 10 (dk_at dksX5_anEmpire_1 11 rfl rfl)
theorem dX5_anEmpire_36 : decode cX5_anEmpire 36 = .ok (.if_icmp .ne 20, 3) := dk_160 0 20 (dk_at dksX5_anEmpire_1 13 rfl rfl)
theorem dX5_anEmpire_39 : decode cX5_anEmpire 39 = .ok (.aload_n 1, 1) := dk_43 (dk_at dksX5_anEmpire_1 16 rfl rfl)
theorem dX5_anEmpire_40 : decode cX5_anEmpire 40 = .ok (.getfield 122, 3) := dk_180 0 122 (dk_at dksX5_anEmpire_1 17 rfl rfl)
theorem dX5_anEmpire_43 : decode cX5_anEmpire 43 = .ok (.aload_n 1, 1) := dk_43 (dk_at dksX5_anEmpire_1 20 rfl rfl)
theorem dX5_anEmpire_44 : decode cX5_anEmpire 44 = .ok (.getfield 65, 3) := dk_180 0 65 (dk_at dksX5_anEmpire_1 21 rfl rfl)
theorem dX5_anEmpire_47 : decode cX5_anEmpire 47 = .ok (.iconst 1, 1) := dk_4 (dk_at dksX5_anEmpire_2 0 rfl rfl)
theorem dX5_anEmpire_48 : decode cX5_anEmpire 48 = .ok (.isub, 1) := dk_100 (dk_at dksX5_anEmpire_2 1 rfl rfl)
theorem dX5_anEmpire_49 : decode cX5_anEmpire 49 = .ok (.aload_n 0, 1) := dk_42 (dk_at dksX5_anEmpire_2 2 rfl rfl)
theorem dX5_anEmpire_50 : decode cX5_anEmpire 50 = .ok (.getfield 37, 3) := dk_180 0 37 (dk_at dksX5_anEmpire_2 3 rfl rfl)
theorem dX5_anEmpire_53 : decode cX5_anEmpire 53 = .ok (.iload_n 2, 1) := dk_28 (dk_at dksX5_anEmpire_2 6 rfl rfl)
theorem dX5_anEmpire_54 : decode cX5_anEmpire 54 = .ok (.iaload, 1) := dk_46 (dk_at dksX5_anEmpire_2 7 rfl rfl)
theorem dX5_anEmpire_55 : decode cX5_anEmpire 55 = .ok (.iastore, 1) := dk_79 (dk_at dksX5_anEmpire_2 8 rfl rfl)
theorem dX5_anEmpire_56 : decode cX5_anEmpire 56 = .ok (.iconst 0, 1) := dk_3 (dk_at dksX5_anEmpire_2 9 rfl rfl)
theorem dX5_anEmpire_57 : decode cX5_anEmpire 57 = .ok (.ireturn, 1) := dk_172 (dk_at dksX5_anEmpire_2 10 rfl rfl)
theorem fdX5_37_4 : sd_Fd "SofaDigModel" 37 4 9 := ⟨(RX5, TX5, 18), "SofaDigModel", rfl, by decide, rfl, in_X5, Or.inl rfl, Or.inl q2859⟩
abbrev mX5_anEmpire : sd_Y := (yX5_anEmpire, cX5_anEmpire, 3, some (.int), none)
def fX5_anEmpire (G : sd_G) (a0 : Nat) (a1 : Nat) (a2 : Int32) : sd_M Int32 :=
  sd_bnd (sd_getR G 4 9 a0) fun v1 =>
  sd_bnd (sd_getR G 4 8 a0) fun v2 =>
  sd_bnd (sd_aldL G v2 a2) fun v3 =>
  sd_bnd (fX5_find G a1 v3) fun r4 =>
  sd_bnd (sd_astI 0 v1 a2 r4) fun _ =>
  sd_bnd (sd_getR G 4 9 a0) fun v5 =>
  sd_bnd (sd_aldI G 0 v5 a2) fun v6 =>
  if v6 = (-1) then (
    sd_ret 3)
  else (
    sd_bnd (sd_getR G 4 7 a0) fun v7 =>
    sd_bnd (sd_aldI G 0 v7 a2) fun v8 =>
    if v8 = 10 then (
      sd_bnd (sd_getR G 5 9 a1) fun v9 =>
      sd_bnd (sd_getI G 5 6 a1) fun v10 =>
      sd_bnd (sd_getR G 4 9 a0) fun v11 =>
      sd_bnd (sd_aldI G 0 v11 a2) fun v12 =>
      sd_bnd (sd_astI 0 v9 (v10 - 1) v12) fun _ =>
      sd_ret 0)
    else (
      sd_ret 0))
set_option maxHeartbeats 4000000 in
theorem sX5_anEmpire (l : Launch) (G : sd_G) (a0 : Nat) (a1 : Nat) (a2 : Int32) (h : sd_H) (ρ : Int32) (cT : Nat × Nat) (h2 : sd_H) (hf : fX5_anEmpire G a0 a1 a2 h = some (ρ, cT, h2)) : sd_Met mX5_anEmpire ((l, G), (1, 23), [.ref a0, .ref a1, .int a2], (sd_oI ρ, h2), cT) h := by
  refine sd_entry (plainFor_of_name rfl) rfl (Nat.le_of_ble_eq_true rfl) ?_
  show sd_J mX5_anEmpire ((l, G), (1, 23), [.ref a0, .ref a1, .int a2], (sd_oI ρ, h2), cT) 0 [(0, .ref a0), (1, .ref a1), (2, .int a2)] [] h cT
  unfold fX5_anEmpire at hf
  refine sj_aload_n 0 dX5_anEmpire_0 rfl ?_
  refine sj_getR fdX5_37_4 hf dX5_anEmpire_1 (fun v1 hf => ?_)
  refine sj_iload_n 2 dX5_anEmpire_4 rfl ?_
  refine sj_aload_n 1 dX5_anEmpire_5 rfl ?_
  refine sj_aload_n 0 dX5_anEmpire_6 rfl ?_
  refine sj_getR fdX5_33_4 hf dX5_anEmpire_7 (fun v2 hf => ?_)
  refine sj_iload_n 2 dX5_anEmpire_10 rfl ?_
  refine sj_lald hf dX5_anEmpire_11 (fun v3 hf => ?_)
  refine sj_cI (rest := [.int a2, .ref v1]) (fun _ _ _ e => sj_runS (n := 2) (rest := [.int a2, .ref v1]) (sX5_find l G a1 v3 h _ _ _ e) rfl rfl q3073 q3074 q127 q3075 (by decide +kernel) rfl ⟨Nat.le_of_ble_eq_true rfl, Nat.le_of_ble_eq_true rfl⟩ rfl (Nat.le_of_ble_eq_true rfl) dX5_anEmpire_12) hf (fun r4 h c hf => ?_)
  refine sj_iast hf dX5_anEmpire_15 (fun h hf => ?_)
  refine sj_aload_n 0 dX5_anEmpire_16 rfl ?_
  refine sj_getR fdX5_37_4 hf dX5_anEmpire_17 (fun v5 hf => ?_)
  refine sj_iload_n 2 dX5_anEmpire_20 rfl ?_
  refine sj_iald hf dX5_anEmpire_21 (fun v6 hf => ?_)
  refine sj_iconst (v := (-1)) dX5_anEmpire_22 (by decide) ?_
  refine sj_icne 28 hf dX5_anEmpire_23 (by decide) (fun g23 hf => ?_) (fun g23 hf => ?_)
  · refine sj_aload_n 0 dX5_anEmpire_28 rfl ?_
    refine sj_getR fdX5_30_4 hf dX5_anEmpire_29 (fun v7 hf => ?_)
    refine sj_iload_n 2 dX5_anEmpire_32 rfl ?_
    refine sj_iald hf dX5_anEmpire_33 (fun v8 hf => ?_)
    refine sj_bipush (v := 10) dX5_anEmpire_34 (by decide) ?_
    refine sj_icne 56 hf dX5_anEmpire_36 (by decide) (fun g36 hf => ?_) (fun g36 hf => ?_)
    · refine sj_iconst (v := 0) dX5_anEmpire_56 (by decide) ?_
      exact sj_iret (o := sd_oI) hf rfl rfl rfl dX5_anEmpire_57
    · refine sj_aload_n 1 dX5_anEmpire_39 rfl ?_
      refine sj_getR fdX5_122_5 hf dX5_anEmpire_40 (fun v9 hf => ?_)
      refine sj_aload_n 1 dX5_anEmpire_43 rfl ?_
      refine sj_getI fdX5_65_5 hf dX5_anEmpire_44 (fun v10 hf => ?_)
      refine sj_iconst (v := 1) dX5_anEmpire_47 (by decide) ?_
      refine sj_isub dX5_anEmpire_48 ?_
      refine sj_aload_n 0 dX5_anEmpire_49 rfl ?_
      refine sj_getR fdX5_37_4 hf dX5_anEmpire_50 (fun v11 hf => ?_)
      refine sj_iload_n 2 dX5_anEmpire_53 rfl ?_
      refine sj_iald hf dX5_anEmpire_54 (fun v12 hf => ?_)
      refine sj_iast hf dX5_anEmpire_55 (fun h hf => ?_)
      refine sj_iconst (v := 0) dX5_anEmpire_56 (by decide) ?_
      exact sj_iret (o := sd_oI) hf rfl rfl rfl dX5_anEmpire_57
  · refine sj_iconst (v := 3) dX5_anEmpire_26 (by decide) ?_
    exact sj_iret (o := sd_oI) hf rfl rfl rfl dX5_anEmpire_27
/-! SofaDigModel.errorOf(LSofaDigModel$Plan;I)I -/
abbrev cX5_errorOf : ByteArray := prog_46_method_80_code
def yX5_errorOf : MethodName := ⟨RX5, "errorOf", "(LSofaDigModel$Plan;I)I"⟩
def dkwX5_errorOf_7 : List UInt8 := [182, 1, 120, 172, 42, 43, 28, 182, 1, 124, 172]
abbrev dktX5_errorOf_7 : List UInt8 := dkwX5_errorOf_7 ++ []
def dkwX5_errorOf_6 : List UInt8 := [42, 180, 0, 33, 28, 47, 182, 1, 114, 172, 42, 43, 42, 180, 0, 33, 28, 47, 182, 1, 117, 172, 42, 43]
abbrev dktX5_errorOf_6 : List UInt8 := dkwX5_errorOf_6 ++ dktX5_errorOf_7
def dkwX5_errorOf_5 : List UInt8 := [28, 46, 8, 160, 0, 7, 4, 167, 0, 4, 3, 182, 1, 107, 172, 42, 43, 28, 182, 1, 111, 172, 42, 43]
abbrev dktX5_errorOf_5 : List UInt8 := dkwX5_errorOf_5 ++ dktX5_errorOf_6
def dkwX5_errorOf_4 : List UInt8 := [4, 182, 1, 103, 172, 42, 43, 42, 180, 0, 33, 28, 47, 3, 182, 1, 103, 172, 42, 43, 42, 180, 0, 24]
abbrev dktX5_errorOf_4 : List UInt8 := dkwX5_errorOf_4 ++ dktX5_errorOf_5
def dkwX5_errorOf_3 : List UInt8 := [182, 1, 97, 172, 42, 43, 42, 180, 0, 33, 28, 47, 182, 1, 100, 172, 42, 43, 42, 180, 0, 33, 28, 47]
abbrev dktX5_errorOf_3 : List UInt8 := dkwX5_errorOf_3 ++ dktX5_errorOf_4
def dkwX5_errorOf_2 : List UInt8 := [3, 172, 42, 43, 42, 180, 0, 33, 28, 47, 182, 1, 94, 172, 42, 43, 42, 180, 0, 33, 28, 47]
abbrev dktX5_errorOf_2 : List UInt8 := dkwX5_errorOf_2 ++ dktX5_errorOf_3
def dkwX5_errorOf_1 : List UInt8 := [170, 0, 0, 0, 0, 184, 0, 0, 0, 0, 0, 0, 0, 11, 0, 0, 0, 62, 0, 0, 0, 64, 0, 0, 0, 76, 0, 0, 0, 88, 0, 0, 0, 100, 0, 0, 0, 113, 0, 0, 0, 126, 0, 0, 0, 147, 0, 0, 0, 154, 0, 0, 0, 166, 0, 0, 0, 184, 0, 0, 0, 178]
abbrev dktX5_errorOf_1 : List UInt8 := dkwX5_errorOf_1 ++ dktX5_errorOf_2
def dkwX5_errorOf_0 : List UInt8 := [42, 180, 0, 30, 28, 46]
abbrev dktX5_errorOf_0 : List UInt8 := dkwX5_errorOf_0 ++ dktX5_errorOf_1
theorem dksX5_errorOf_0 : cX5_errorOf.data.toList.drop 0 = dktX5_errorOf_0 := by decide +kernel
theorem dksX5_errorOf_1 : cX5_errorOf.data.toList.drop 6 = dktX5_errorOf_1 := dk_seg dksX5_errorOf_0 6 rfl rfl
theorem dksX5_errorOf_2 : cX5_errorOf.data.toList.drop 68 = dktX5_errorOf_2 := dk_seg dksX5_errorOf_1 62 rfl rfl
theorem dksX5_errorOf_3 : cX5_errorOf.data.toList.drop 90 = dktX5_errorOf_3 := dk_seg dksX5_errorOf_2 22 rfl rfl
theorem dksX5_errorOf_4 : cX5_errorOf.data.toList.drop 114 = dktX5_errorOf_4 := dk_seg dksX5_errorOf_3 24 rfl rfl
theorem dksX5_errorOf_5 : cX5_errorOf.data.toList.drop 138 = dktX5_errorOf_5 := dk_seg dksX5_errorOf_4 24 rfl rfl
theorem dksX5_errorOf_6 : cX5_errorOf.data.toList.drop 162 = dktX5_errorOf_6 := dk_seg dksX5_errorOf_5 24 rfl rfl
theorem dksX5_errorOf_7 : cX5_errorOf.data.toList.drop 186 = dktX5_errorOf_7 := dk_seg dksX5_errorOf_6 24 rfl rfl
theorem dX5_errorOf_0 : decode cX5_errorOf 0 = .ok (.aload_n 0, 1) := dk_42 (dk_at dksX5_errorOf_0 0 rfl rfl)
theorem dX5_errorOf_1 : decode cX5_errorOf 1 = .ok (.getfield 30, 3) := dk_180 0 30 (dk_at dksX5_errorOf_0 1 rfl rfl)
theorem dX5_errorOf_4 : decode cX5_errorOf 4 = .ok (.iload_n 2, 1) := dk_28 (dk_at dksX5_errorOf_0 4 rfl rfl)
theorem dX5_errorOf_5 : decode cX5_errorOf 5 = .ok (.iaload, 1) := dk_46 (dk_at dksX5_errorOf_0 5 rfl rfl)
theorem dX5_errorOf_6 : decode cX5_errorOf 6 = .ok (.tableswitch 184 0 11 #[62, 64, 76, 88, 100, 113, 126, 147, 154, 166, 184, 178], 62) := by decide +kernel
theorem dX5_errorOf_68 : decode cX5_errorOf 68 = .ok (.iconst 0, 1) := dk_3 (dk_at dksX5_errorOf_2 0 rfl rfl)
theorem dX5_errorOf_69 : decode cX5_errorOf 69 = .ok (.ireturn, 1) := dk_172 (dk_at dksX5_errorOf_2 1 rfl rfl)
theorem dX5_errorOf_70 : decode cX5_errorOf 70 = .ok (.aload_n 0, 1) := dk_42 (dk_at dksX5_errorOf_2 2 rfl rfl)
theorem dX5_errorOf_71 : decode cX5_errorOf 71 = .ok (.aload_n 1, 1) := dk_43 (dk_at dksX5_errorOf_2 3 rfl rfl)
theorem dX5_errorOf_72 : decode cX5_errorOf 72 = .ok (.aload_n 0, 1) := dk_42 (dk_at dksX5_errorOf_2 4 rfl rfl)
theorem dX5_errorOf_73 : decode cX5_errorOf 73 = .ok (.getfield 33, 3) := dk_180 0 33 (dk_at dksX5_errorOf_2 5 rfl rfl)
theorem dX5_errorOf_76 : decode cX5_errorOf 76 = .ok (.iload_n 2, 1) := dk_28 (dk_at dksX5_errorOf_2 8 rfl rfl)
theorem dX5_errorOf_77 : decode cX5_errorOf 77 = .ok (.laload, 1) := dk_47 (dk_at dksX5_errorOf_2 9 rfl rfl)
theorem dX5_errorOf_78 : decode cX5_errorOf 78 = .ok (.invokevirtual 350, 3) := dk_182 1 94 (dk_at dksX5_errorOf_2 10 rfl rfl)
theorem dX5_errorOf_81 : decode cX5_errorOf 81 = .ok (.ireturn, 1) := dk_172 (dk_at dksX5_errorOf_2 13 rfl rfl)
theorem dX5_errorOf_82 : decode cX5_errorOf 82 = .ok (.aload_n 0, 1) := dk_42 (dk_at dksX5_errorOf_2 14 rfl rfl)
theorem dX5_errorOf_83 : decode cX5_errorOf 83 = .ok (.aload_n 1, 1) := dk_43 (dk_at dksX5_errorOf_2 15 rfl rfl)
theorem dX5_errorOf_84 : decode cX5_errorOf 84 = .ok (.aload_n 0, 1) := dk_42 (dk_at dksX5_errorOf_2 16 rfl rfl)
theorem dX5_errorOf_85 : decode cX5_errorOf 85 = .ok (.getfield 33, 3) := dk_180 0 33 (dk_at dksX5_errorOf_2 17 rfl rfl)
theorem dX5_errorOf_88 : decode cX5_errorOf 88 = .ok (.iload_n 2, 1) := dk_28 (dk_at dksX5_errorOf_2 20 rfl rfl)
theorem dX5_errorOf_89 : decode cX5_errorOf 89 = .ok (.laload, 1) := dk_47 (dk_at dksX5_errorOf_2 21 rfl rfl)
theorem dX5_errorOf_90 : decode cX5_errorOf 90 = .ok (.invokevirtual 353, 3) := dk_182 1 97 (dk_at dksX5_errorOf_3 0 rfl rfl)
theorem dX5_errorOf_93 : decode cX5_errorOf 93 = .ok (.ireturn, 1) := dk_172 (dk_at dksX5_errorOf_3 3 rfl rfl)
theorem dX5_errorOf_94 : decode cX5_errorOf 94 = .ok (.aload_n 0, 1) := dk_42 (dk_at dksX5_errorOf_3 4 rfl rfl)
theorem dX5_errorOf_95 : decode cX5_errorOf 95 = .ok (.aload_n 1, 1) := dk_43 (dk_at dksX5_errorOf_3 5 rfl rfl)
theorem dX5_errorOf_96 : decode cX5_errorOf 96 = .ok (.aload_n 0, 1) := dk_42 (dk_at dksX5_errorOf_3 6 rfl rfl)
theorem dX5_errorOf_97 : decode cX5_errorOf 97 = .ok (.getfield 33, 3) := dk_180 0 33 (dk_at dksX5_errorOf_3 7 rfl rfl)
theorem dX5_errorOf_100 : decode cX5_errorOf 100 = .ok (.iload_n 2, 1) := dk_28 (dk_at dksX5_errorOf_3 10 rfl rfl)
theorem dX5_errorOf_101 : decode cX5_errorOf 101 = .ok (.laload, 1) := dk_47 (dk_at dksX5_errorOf_3 11 rfl rfl)
theorem dX5_errorOf_102 : decode cX5_errorOf 102 = .ok (.invokevirtual 356, 3) := dk_182 1 100 (dk_at dksX5_errorOf_3 12 rfl rfl)
theorem dX5_errorOf_105 : decode cX5_errorOf 105 = .ok (.ireturn, 1) := dk_172 (dk_at dksX5_errorOf_3 15 rfl rfl)
theorem dX5_errorOf_106 : decode cX5_errorOf 106 = .ok (.aload_n 0, 1) := dk_42 (dk_at dksX5_errorOf_3 16 rfl rfl)
theorem dX5_errorOf_107 : decode cX5_errorOf 107 = .ok (.aload_n 1, 1) := dk_43 (dk_at dksX5_errorOf_3 17 rfl rfl)
theorem dX5_errorOf_108 : decode cX5_errorOf 108 = .ok (.aload_n 0, 1) := dk_42 (dk_at dksX5_errorOf_3 18 rfl rfl)
theorem dX5_errorOf_109 : decode cX5_errorOf 109 = .ok (.getfield 33, 3) := dk_180 0 33 (dk_at dksX5_errorOf_3 19 rfl rfl)
theorem dX5_errorOf_112 : decode cX5_errorOf 112 = .ok (.iload_n 2, 1) := dk_28 (dk_at dksX5_errorOf_3 22 rfl rfl)
theorem dX5_errorOf_113 : decode cX5_errorOf 113 = .ok (.laload, 1) := dk_47 (dk_at dksX5_errorOf_3 23 rfl rfl)
theorem dX5_errorOf_114 : decode cX5_errorOf 114 = .ok (.iconst 1, 1) := dk_4 (dk_at dksX5_errorOf_4 0 rfl rfl)
theorem dX5_errorOf_115 : decode cX5_errorOf 115 = .ok (.invokevirtual 359, 3) := dk_182 1 103 (dk_at dksX5_errorOf_4 1 rfl rfl)
theorem dX5_errorOf_118 : decode cX5_errorOf 118 = .ok (.ireturn, 1) := dk_172 (dk_at dksX5_errorOf_4 4 rfl rfl)
theorem dX5_errorOf_119 : decode cX5_errorOf 119 = .ok (.aload_n 0, 1) := dk_42 (dk_at dksX5_errorOf_4 5 rfl rfl)
theorem dX5_errorOf_120 : decode cX5_errorOf 120 = .ok (.aload_n 1, 1) := dk_43 (dk_at dksX5_errorOf_4 6 rfl rfl)
theorem dX5_errorOf_121 : decode cX5_errorOf 121 = .ok (.aload_n 0, 1) := dk_42 (dk_at dksX5_errorOf_4 7 rfl rfl)
theorem dX5_errorOf_122 : decode cX5_errorOf 122 = .ok (.getfield 33, 3) := dk_180 0 33 (dk_at dksX5_errorOf_4 8 rfl rfl)
theorem dX5_errorOf_125 : decode cX5_errorOf 125 = .ok (.iload_n 2, 1) := dk_28 (dk_at dksX5_errorOf_4 11 rfl rfl)
theorem dX5_errorOf_126 : decode cX5_errorOf 126 = .ok (.laload, 1) := dk_47 (dk_at dksX5_errorOf_4 12 rfl rfl)
theorem dX5_errorOf_127 : decode cX5_errorOf 127 = .ok (.iconst 0, 1) := dk_3 (dk_at dksX5_errorOf_4 13 rfl rfl)
theorem dX5_errorOf_128 : decode cX5_errorOf 128 = .ok (.invokevirtual 359, 3) := dk_182 1 103 (dk_at dksX5_errorOf_4 14 rfl rfl)
theorem dX5_errorOf_131 : decode cX5_errorOf 131 = .ok (.ireturn, 1) := dk_172 (dk_at dksX5_errorOf_4 17 rfl rfl)
theorem dX5_errorOf_132 : decode cX5_errorOf 132 = .ok (.aload_n 0, 1) := dk_42 (dk_at dksX5_errorOf_4 18 rfl rfl)
theorem dX5_errorOf_133 : decode cX5_errorOf 133 = .ok (.aload_n 1, 1) := dk_43 (dk_at dksX5_errorOf_4 19 rfl rfl)
theorem dX5_errorOf_134 : decode cX5_errorOf 134 = .ok (.aload_n 0, 1) := dk_42 (dk_at dksX5_errorOf_4 20 rfl rfl)
theorem dX5_errorOf_135 : decode cX5_errorOf 135 = .ok (.getfield 24, 3) := dk_180 0 24 (dk_at dksX5_errorOf_4 21 rfl rfl)
theorem dX5_errorOf_138 : decode cX5_errorOf 138 = .ok (.iload_n 2, 1) := dk_28 (dk_at dksX5_errorOf_5 0 rfl rfl)
theorem dX5_errorOf_139 : decode cX5_errorOf 139 = .ok (.iaload, 1) := dk_46 (dk_at dksX5_errorOf_5 1 rfl rfl)
theorem dX5_errorOf_140 : decode cX5_errorOf 140 = .ok (.iconst 5, 1) := dk_8 (dk_at dksX5_errorOf_5 2 rfl rfl)
theorem dX5_errorOf_141 : decode cX5_errorOf 141 = .ok (.if_icmp .ne 7, 3) := dk_160 0 7 (dk_at dksX5_errorOf_5 3 rfl rfl)
theorem dX5_errorOf_144 : decode cX5_errorOf 144 = .ok (.iconst 1, 1) := dk_4 (dk_at dksX5_errorOf_5 6 rfl rfl)
theorem dX5_errorOf_145 : decode cX5_errorOf 145 = .ok (.goto 4, 3) := dk_167 0 4 (dk_at dksX5_errorOf_5 7 rfl rfl)
theorem dX5_errorOf_148 : decode cX5_errorOf 148 = .ok (.iconst 0, 1) := dk_3 (dk_at dksX5_errorOf_5 10 rfl rfl)
theorem dX5_errorOf_149 : decode cX5_errorOf 149 = .ok (.invokevirtual 363, 3) := dk_182 1 107 (dk_at dksX5_errorOf_5 11 rfl rfl)
theorem dX5_errorOf_152 : decode cX5_errorOf 152 = .ok (.ireturn, 1) := dk_172 (dk_at dksX5_errorOf_5 14 rfl rfl)
theorem dX5_errorOf_153 : decode cX5_errorOf 153 = .ok (.aload_n 0, 1) := dk_42 (dk_at dksX5_errorOf_5 15 rfl rfl)
theorem dX5_errorOf_154 : decode cX5_errorOf 154 = .ok (.aload_n 1, 1) := dk_43 (dk_at dksX5_errorOf_5 16 rfl rfl)
theorem dX5_errorOf_155 : decode cX5_errorOf 155 = .ok (.iload_n 2, 1) := dk_28 (dk_at dksX5_errorOf_5 17 rfl rfl)
theorem dX5_errorOf_156 : decode cX5_errorOf 156 = .ok (.invokevirtual 367, 3) := dk_182 1 111 (dk_at dksX5_errorOf_5 18 rfl rfl)
theorem dX5_errorOf_159 : decode cX5_errorOf 159 = .ok (.ireturn, 1) := dk_172 (dk_at dksX5_errorOf_5 21 rfl rfl)
theorem dX5_errorOf_160 : decode cX5_errorOf 160 = .ok (.aload_n 0, 1) := dk_42 (dk_at dksX5_errorOf_5 22 rfl rfl)
theorem dX5_errorOf_161 : decode cX5_errorOf 161 = .ok (.aload_n 1, 1) := dk_43 (dk_at dksX5_errorOf_5 23 rfl rfl)
theorem dX5_errorOf_162 : decode cX5_errorOf 162 = .ok (.aload_n 0, 1) := dk_42 (dk_at dksX5_errorOf_6 0 rfl rfl)
theorem dX5_errorOf_163 : decode cX5_errorOf 163 = .ok (.getfield 33, 3) := dk_180 0 33 (dk_at dksX5_errorOf_6 1 rfl rfl)
theorem dX5_errorOf_166 : decode cX5_errorOf 166 = .ok (.iload_n 2, 1) := dk_28 (dk_at dksX5_errorOf_6 4 rfl rfl)
theorem dX5_errorOf_167 : decode cX5_errorOf 167 = .ok (.laload, 1) := dk_47 (dk_at dksX5_errorOf_6 5 rfl rfl)
theorem dX5_errorOf_168 : decode cX5_errorOf 168 = .ok (.invokevirtual 370, 3) := dk_182 1 114 (dk_at dksX5_errorOf_6 6 rfl rfl)
theorem dX5_errorOf_171 : decode cX5_errorOf 171 = .ok (.ireturn, 1) := dk_172 (dk_at dksX5_errorOf_6 9 rfl rfl)
theorem dX5_errorOf_172 : decode cX5_errorOf 172 = .ok (.aload_n 0, 1) := dk_42 (dk_at dksX5_errorOf_6 10 rfl rfl)
theorem dX5_errorOf_173 : decode cX5_errorOf 173 = .ok (.aload_n 1, 1) := dk_43 (dk_at dksX5_errorOf_6 11 rfl rfl)
theorem dX5_errorOf_174 : decode cX5_errorOf 174 = .ok (.aload_n 0, 1) := dk_42 (dk_at dksX5_errorOf_6 12 rfl rfl)
theorem dX5_errorOf_175 : decode cX5_errorOf 175 = .ok (.getfield 33, 3) := dk_180 0 33 (dk_at dksX5_errorOf_6 13 rfl rfl)
theorem dX5_errorOf_178 : decode cX5_errorOf 178 = .ok (.iload_n 2, 1) := dk_28 (dk_at dksX5_errorOf_6 16 rfl rfl)
theorem dX5_errorOf_179 : decode cX5_errorOf 179 = .ok (.laload, 1) := dk_47 (dk_at dksX5_errorOf_6 17 rfl rfl)
theorem dX5_errorOf_180 : decode cX5_errorOf 180 = .ok (.invokevirtual 373, 3) := dk_182 1 117 (dk_at dksX5_errorOf_6 18 rfl rfl)
theorem dX5_errorOf_183 : decode cX5_errorOf 183 = .ok (.ireturn, 1) := dk_172 (dk_at dksX5_errorOf_6 21 rfl rfl)
theorem dX5_errorOf_184 : decode cX5_errorOf 184 = .ok (.aload_n 0, 1) := dk_42 (dk_at dksX5_errorOf_6 22 rfl rfl)
theorem dX5_errorOf_185 : decode cX5_errorOf 185 = .ok (.aload_n 1, 1) := dk_43 (dk_at dksX5_errorOf_6 23 rfl rfl)
theorem dX5_errorOf_186 : decode cX5_errorOf 186 = .ok (.invokevirtual 376, 3) := dk_182 1 120 (dk_at dksX5_errorOf_7 0 rfl rfl)
theorem dX5_errorOf_189 : decode cX5_errorOf 189 = .ok (.ireturn, 1) := dk_172 (dk_at dksX5_errorOf_7 3 rfl rfl)
theorem dX5_errorOf_190 : decode cX5_errorOf 190 = .ok (.aload_n 0, 1) := dk_42 (dk_at dksX5_errorOf_7 4 rfl rfl)
theorem dX5_errorOf_191 : decode cX5_errorOf 191 = .ok (.aload_n 1, 1) := dk_43 (dk_at dksX5_errorOf_7 5 rfl rfl)
theorem dX5_errorOf_192 : decode cX5_errorOf 192 = .ok (.iload_n 2, 1) := dk_28 (dk_at dksX5_errorOf_7 6 rfl rfl)
theorem dX5_errorOf_193 : decode cX5_errorOf 193 = .ok (.invokevirtual 380, 3) := dk_182 1 124 (dk_at dksX5_errorOf_7 7 rfl rfl)
theorem dX5_errorOf_196 : decode cX5_errorOf 196 = .ok (.ireturn, 1) := dk_172 (dk_at dksX5_errorOf_7 10 rfl rfl)
abbrev mX5_errorOf : sd_Y := (yX5_errorOf, cX5_errorOf, 3, some (.int), none)
def fX5_errorOf (G : sd_G) (a0 : Nat) (a1 : Nat) (a2 : Int32) : sd_M Int32 :=
  sd_bnd (sd_getR G 4 7 a0) fun v1 =>
  sd_bnd (sd_aldI G 0 v1 a2) fun v2 =>
  if v2 = 0 then (
    sd_ret 0)
  else if v2 = 1 then (
    sd_bnd (sd_getR G 4 8 a0) fun v3 =>
    sd_bnd (sd_aldL G v3 a2) fun v4 =>
    sd_bnd (sd_isC G 4 a0) fun _ =>
    sd_bnd (fX5_itsSeats G a0 a1 v4) fun r5 =>
    sd_ret r5)
  else if v2 = 2 then (
    sd_bnd (sd_getR G 4 8 a0) fun v6 =>
    sd_bnd (sd_aldL G v6 a2) fun v7 =>
    sd_bnd (sd_isC G 4 a0) fun _ =>
    sd_bnd (fX5_itsLayers G a0 a1 v7) fun r8 =>
    sd_ret r8)
  else if v2 = 3 then (
    sd_bnd (sd_getR G 4 8 a0) fun v9 =>
    sd_bnd (sd_aldL G v9 a2) fun v10 =>
    sd_bnd (sd_isC G 4 a0) fun _ =>
    sd_bnd (fX5_newEmpire G a0 a1 v10) fun r11 =>
    sd_ret r11)
  else if v2 = 4 then (
    sd_bnd (sd_getR G 4 8 a0) fun v12 =>
    sd_bnd (sd_aldL G v12 a2) fun v13 =>
    sd_bnd (sd_isC G 4 a0) fun _ =>
    sd_bnd (fX5_itsYears G a0 a1 v13 1) fun r14 =>
    sd_ret r14)
  else if v2 = 5 then (
    sd_bnd (sd_getR G 4 8 a0) fun v15 =>
    sd_bnd (sd_aldL G v15 a2) fun v16 =>
    sd_bnd (sd_isC G 4 a0) fun _ =>
    sd_bnd (fX5_itsYears G a0 a1 v16 0) fun r17 =>
    sd_ret r17)
  else if v2 = 6 then (
    sd_bnd (sd_getR G 4 5 a0) fun v18 =>
    sd_bnd (sd_aldI G 0 v18 a2) fun v19 =>
    if v19 = 5 then (
      sd_bnd (sd_isC G 4 a0) fun _ =>
      sd_bnd (fX5_newFind G a0 a1 1) fun r21 =>
      sd_ret r21)
    else (
      sd_bnd (sd_isC G 4 a0) fun _ =>
      sd_bnd (fX5_newFind G a0 a1 0) fun r20 =>
      sd_ret r20))
  else if v2 = 7 then (
    sd_bnd (sd_isC G 4 a0) fun _ =>
    sd_bnd (fX5_itsSeat G a0 a1 a2) fun r22 =>
    sd_ret r22)
  else if v2 = 8 then (
    sd_bnd (sd_getR G 4 8 a0) fun v23 =>
    sd_bnd (sd_aldL G v23 a2) fun v24 =>
    sd_bnd (sd_isC G 4 a0) fun _ =>
    sd_bnd (fX5_itsStratum G a0 a1 v24) fun r25 =>
    sd_ret r25)
  else if v2 = 9 then (
    sd_bnd (sd_getR G 4 8 a0) fun v26 =>
    sd_bnd (sd_aldL G v26 a2) fun v27 =>
    sd_bnd (sd_isC G 4 a0) fun _ =>
    sd_bnd (fX5_itsYear G a0 a1 v27) fun r28 =>
    sd_ret r28)
  else if v2 = 10 then (
    sd_bnd (sd_isC G 4 a0) fun _ =>
    sd_bnd (fX5_anEmpire G a0 a1 a2) fun r29 =>
    sd_ret r29)
  else if v2 = 11 then (
    sd_bnd (sd_isC G 4 a0) fun _ =>
    sd_bnd (fX5_newOrder G a0 a1) fun r30 =>
    sd_ret r30)
  else (
  sd_bnd (sd_isC G 4 a0) fun _ =>
  sd_bnd (fX5_anEmpire G a0 a1 a2) fun r31 =>
  sd_ret r31)
set_option maxHeartbeats 4000000 in
theorem sX5_errorOf (l : Launch) (G : sd_G) (a0 : Nat) (a1 : Nat) (a2 : Int32) (h : sd_H) (ρ : Int32) (cT : Nat × Nat) (h2 : sd_H) (hf : fX5_errorOf G a0 a1 a2 h = some (ρ, cT, h2)) : sd_Met mX5_errorOf ((l, G), (2, 46), [.ref a0, .ref a1, .int a2], (sd_oI ρ, h2), cT) h := by
  refine sd_entry (plainFor_of_name rfl) rfl (Nat.le_of_ble_eq_true rfl) ?_
  show sd_J mX5_errorOf ((l, G), (2, 46), [.ref a0, .ref a1, .int a2], (sd_oI ρ, h2), cT) 0 [(0, .ref a0), (1, .ref a1), (2, .int a2)] [] h cT
  unfold fX5_errorOf at hf
  refine sj_aload_n 0 dX5_errorOf_0 rfl ?_
  refine sj_getR fdX5_30_4 hf dX5_errorOf_1 (fun v1 hf => ?_)
  refine sj_iload_n 2 dX5_errorOf_4 rfl ?_
  refine sj_iald hf dX5_errorOf_5 (fun v2 hf => ?_)
  by_cases e6_0 : v2 = 0
  · rw [if_pos e6_0] at hf
    refine sj_tsw 68 dX5_errorOf_6 (k := 0) e6_0 (by decide) (by decide) (by decide) (by decide) ?_
    refine sj_iconst (v := 0) dX5_errorOf_68 (by decide) ?_
    exact sj_iret (o := sd_oI) hf rfl rfl rfl dX5_errorOf_69
  rw [if_neg e6_0] at hf
  by_cases e6_1 : v2 = 1
  · rw [if_pos e6_1] at hf
    refine sj_tsw 70 dX5_errorOf_6 (k := 1) e6_1 (by decide) (by decide) (by decide) (by decide) ?_
    refine sj_aload_n 0 dX5_errorOf_70 rfl ?_
    refine sj_aload_n 1 dX5_errorOf_71 rfl ?_
    refine sj_aload_n 0 dX5_errorOf_72 rfl ?_
    refine sj_getR fdX5_33_4 hf dX5_errorOf_73 (fun v3 hf => ?_)
    refine sj_iload_n 2 dX5_errorOf_76 rfl ?_
    refine sj_lald hf dX5_errorOf_77 (fun v4 hf => ?_)
    obtain ⟨fs78, he78, hf⟩ := sd_isC_some hf
    refine sj_cI (rest := []) (fun _ _ _ e => sj_runV (n := 2) (As := [.ref a1, .long v4]) (rest := []) (sX5_itsSeats l G a0 a1 v4 h _ _ _ e) he78 rfl rfl rfl rfl q3058 q3060 qs71 q127 q3061 (by decide +kernel) rfl rfl ⟨Nat.le_of_ble_eq_true rfl, Nat.le_of_ble_eq_true rfl⟩ rfl (Nat.le_of_ble_eq_true rfl) dX5_errorOf_78) hf (fun r5 h c hf => ?_)
    exact sj_iret (o := sd_oI) hf rfl rfl rfl dX5_errorOf_81
  rw [if_neg e6_1] at hf
  by_cases e6_2 : v2 = 2
  · rw [if_pos e6_2] at hf
    refine sj_tsw 82 dX5_errorOf_6 (k := 2) e6_2 (by decide) (by decide) (by decide) (by decide) ?_
    refine sj_aload_n 0 dX5_errorOf_82 rfl ?_
    refine sj_aload_n 1 dX5_errorOf_83 rfl ?_
    refine sj_aload_n 0 dX5_errorOf_84 rfl ?_
    refine sj_getR fdX5_33_4 hf dX5_errorOf_85 (fun v6 hf => ?_)
    refine sj_iload_n 2 dX5_errorOf_88 rfl ?_
    refine sj_lald hf dX5_errorOf_89 (fun v7 hf => ?_)
    obtain ⟨fs90, he90, hf⟩ := sd_isC_some hf
    refine sj_cI (rest := []) (fun _ _ _ e => sj_runV (n := 2) (As := [.ref a1, .long v7]) (rest := []) (sX5_itsLayers l G a0 a1 v7 h _ _ _ e) he90 rfl rfl rfl rfl q3064 q3066 qs72 q127 q3067 (by decide +kernel) rfl rfl ⟨Nat.le_of_ble_eq_true rfl, Nat.le_of_ble_eq_true rfl⟩ rfl (Nat.le_of_ble_eq_true rfl) dX5_errorOf_90) hf (fun r8 h c hf => ?_)
    exact sj_iret (o := sd_oI) hf rfl rfl rfl dX5_errorOf_93
  rw [if_neg e6_2] at hf
  by_cases e6_3 : v2 = 3
  · rw [if_pos e6_3] at hf
    refine sj_tsw 94 dX5_errorOf_6 (k := 3) e6_3 (by decide) (by decide) (by decide) (by decide) ?_
    refine sj_aload_n 0 dX5_errorOf_94 rfl ?_
    refine sj_aload_n 1 dX5_errorOf_95 rfl ?_
    refine sj_aload_n 0 dX5_errorOf_96 rfl ?_
    refine sj_getR fdX5_33_4 hf dX5_errorOf_97 (fun v9 hf => ?_)
    refine sj_iload_n 2 dX5_errorOf_100 rfl ?_
    refine sj_lald hf dX5_errorOf_101 (fun v10 hf => ?_)
    obtain ⟨fs102, he102, hf⟩ := sd_isC_some hf
    refine sj_cI (rest := []) (fun _ _ _ e => sj_runV (n := 2) (As := [.ref a1, .long v10]) (rest := []) (sX5_newEmpire l G a0 a1 v10 h _ _ _ e) he102 rfl rfl rfl rfl q3069 q3071 qs73 q127 q3072 (by decide +kernel) rfl rfl ⟨Nat.le_of_ble_eq_true rfl, Nat.le_of_ble_eq_true rfl⟩ rfl (Nat.le_of_ble_eq_true rfl) dX5_errorOf_102) hf (fun r11 h c hf => ?_)
    exact sj_iret (o := sd_oI) hf rfl rfl rfl dX5_errorOf_105
  rw [if_neg e6_3] at hf
  by_cases e6_4 : v2 = 4
  · rw [if_pos e6_4] at hf
    refine sj_tsw 106 dX5_errorOf_6 (k := 4) e6_4 (by decide) (by decide) (by decide) (by decide) ?_
    refine sj_aload_n 0 dX5_errorOf_106 rfl ?_
    refine sj_aload_n 1 dX5_errorOf_107 rfl ?_
    refine sj_aload_n 0 dX5_errorOf_108 rfl ?_
    refine sj_getR fdX5_33_4 hf dX5_errorOf_109 (fun v12 hf => ?_)
    refine sj_iload_n 2 dX5_errorOf_112 rfl ?_
    refine sj_lald hf dX5_errorOf_113 (fun v13 hf => ?_)
    refine sj_iconst (v := 1) dX5_errorOf_114 (by decide) ?_
    obtain ⟨fs115, he115, hf⟩ := sd_isC_some hf
    refine sj_cI (rest := []) (fun _ _ _ e => sj_runV (n := 3) (As := [.ref a1, .long v13, .int 1]) (rest := []) (sX5_itsYears l G a0 a1 v13 1 h _ _ _ e) he115 rfl rfl rfl rfl q3076 q3078 qs74 q127 q3079 (by decide +kernel) rfl rfl ⟨Nat.le_of_ble_eq_true rfl, Nat.le_of_ble_eq_true rfl⟩ rfl (Nat.le_of_ble_eq_true rfl) dX5_errorOf_115) hf (fun r14 h c hf => ?_)
    exact sj_iret (o := sd_oI) hf rfl rfl rfl dX5_errorOf_118
  rw [if_neg e6_4] at hf
  by_cases e6_5 : v2 = 5
  · rw [if_pos e6_5] at hf
    refine sj_tsw 119 dX5_errorOf_6 (k := 5) e6_5 (by decide) (by decide) (by decide) (by decide) ?_
    refine sj_aload_n 0 dX5_errorOf_119 rfl ?_
    refine sj_aload_n 1 dX5_errorOf_120 rfl ?_
    refine sj_aload_n 0 dX5_errorOf_121 rfl ?_
    refine sj_getR fdX5_33_4 hf dX5_errorOf_122 (fun v15 hf => ?_)
    refine sj_iload_n 2 dX5_errorOf_125 rfl ?_
    refine sj_lald hf dX5_errorOf_126 (fun v16 hf => ?_)
    refine sj_iconst (v := 0) dX5_errorOf_127 (by decide) ?_
    obtain ⟨fs128, he128, hf⟩ := sd_isC_some hf
    refine sj_cI (rest := []) (fun _ _ _ e => sj_runV (n := 3) (As := [.ref a1, .long v16, .int 0]) (rest := []) (sX5_itsYears l G a0 a1 v16 0 h _ _ _ e) he128 rfl rfl rfl rfl q3076 q3078 qs74 q127 q3079 (by decide +kernel) rfl rfl ⟨Nat.le_of_ble_eq_true rfl, Nat.le_of_ble_eq_true rfl⟩ rfl (Nat.le_of_ble_eq_true rfl) dX5_errorOf_128) hf (fun r17 h c hf => ?_)
    exact sj_iret (o := sd_oI) hf rfl rfl rfl dX5_errorOf_131
  rw [if_neg e6_5] at hf
  by_cases e6_6 : v2 = 6
  · rw [if_pos e6_6] at hf
    refine sj_tsw 132 dX5_errorOf_6 (k := 6) e6_6 (by decide) (by decide) (by decide) (by decide) ?_
    refine sj_aload_n 0 dX5_errorOf_132 rfl ?_
    refine sj_aload_n 1 dX5_errorOf_133 rfl ?_
    refine sj_aload_n 0 dX5_errorOf_134 rfl ?_
    refine sj_getR fdX5_24_4 hf dX5_errorOf_135 (fun v18 hf => ?_)
    refine sj_iload_n 2 dX5_errorOf_138 rfl ?_
    refine sj_iald hf dX5_errorOf_139 (fun v19 hf => ?_)
    refine sj_iconst (v := 5) dX5_errorOf_140 (by decide) ?_
    refine sj_icne 148 hf dX5_errorOf_141 (by decide) (fun g141 hf => ?_) (fun g141 hf => ?_)
    · refine sj_iconst (v := 0) dX5_errorOf_148 (by decide) ?_
      obtain ⟨fs149, he149, hf⟩ := sd_isC_some hf
      refine sj_cI (rest := []) (fun _ _ _ e => sj_runV (n := 2) (As := [.ref a1, .int 0]) (rest := []) (sX5_newFind l G a0 a1 0 h _ _ _ e) he149 rfl rfl rfl rfl q3081 q3083 qs75 q127 q3084 (by decide +kernel) rfl rfl ⟨Nat.le_of_ble_eq_true rfl, Nat.le_of_ble_eq_true rfl⟩ rfl (Nat.le_of_ble_eq_true rfl) dX5_errorOf_149) hf (fun r20 h c hf => ?_)
      exact sj_iret (o := sd_oI) hf rfl rfl rfl dX5_errorOf_152
    · refine sj_iconst (v := 1) dX5_errorOf_144 (by decide) ?_
      refine sj_goto 149 dX5_errorOf_145 (by decide) ?_
      obtain ⟨fs149, he149, hf⟩ := sd_isC_some hf
      refine sj_cI (rest := []) (fun _ _ _ e => sj_runV (n := 2) (As := [.ref a1, .int 1]) (rest := []) (sX5_newFind l G a0 a1 1 h _ _ _ e) he149 rfl rfl rfl rfl q3081 q3083 qs75 q127 q3084 (by decide +kernel) rfl rfl ⟨Nat.le_of_ble_eq_true rfl, Nat.le_of_ble_eq_true rfl⟩ rfl (Nat.le_of_ble_eq_true rfl) dX5_errorOf_149) hf (fun r21 h c hf => ?_)
      exact sj_iret (o := sd_oI) hf rfl rfl rfl dX5_errorOf_152
  rw [if_neg e6_6] at hf
  by_cases e6_7 : v2 = 7
  · rw [if_pos e6_7] at hf
    refine sj_tsw 153 dX5_errorOf_6 (k := 7) e6_7 (by decide) (by decide) (by decide) (by decide) ?_
    refine sj_aload_n 0 dX5_errorOf_153 rfl ?_
    refine sj_aload_n 1 dX5_errorOf_154 rfl ?_
    refine sj_iload_n 2 dX5_errorOf_155 rfl ?_
    obtain ⟨fs156, he156, hf⟩ := sd_isC_some hf
    refine sj_cI (rest := []) (fun _ _ _ e => sj_runV (n := 2) (As := [.ref a1, .int a2]) (rest := []) (sX5_itsSeat l G a0 a1 a2 h _ _ _ e) he156 rfl rfl rfl rfl q3085 q3087 qs76 q127 q3088 (by decide +kernel) rfl rfl ⟨Nat.le_of_ble_eq_true rfl, Nat.le_of_ble_eq_true rfl⟩ rfl (Nat.le_of_ble_eq_true rfl) dX5_errorOf_156) hf (fun r22 h c hf => ?_)
    exact sj_iret (o := sd_oI) hf rfl rfl rfl dX5_errorOf_159
  rw [if_neg e6_7] at hf
  by_cases e6_8 : v2 = 8
  · rw [if_pos e6_8] at hf
    refine sj_tsw 160 dX5_errorOf_6 (k := 8) e6_8 (by decide) (by decide) (by decide) (by decide) ?_
    refine sj_aload_n 0 dX5_errorOf_160 rfl ?_
    refine sj_aload_n 1 dX5_errorOf_161 rfl ?_
    refine sj_aload_n 0 dX5_errorOf_162 rfl ?_
    refine sj_getR fdX5_33_4 hf dX5_errorOf_163 (fun v23 hf => ?_)
    refine sj_iload_n 2 dX5_errorOf_166 rfl ?_
    refine sj_lald hf dX5_errorOf_167 (fun v24 hf => ?_)
    obtain ⟨fs168, he168, hf⟩ := sd_isC_some hf
    refine sj_cI (rest := []) (fun _ _ _ e => sj_runV (n := 2) (As := [.ref a1, .long v24]) (rest := []) (sX5_itsStratum l G a0 a1 v24 h _ _ _ e) he168 rfl rfl rfl rfl q3089 q3091 qs77 q127 q3092 (by decide +kernel) rfl rfl ⟨Nat.le_of_ble_eq_true rfl, Nat.le_of_ble_eq_true rfl⟩ rfl (Nat.le_of_ble_eq_true rfl) dX5_errorOf_168) hf (fun r25 h c hf => ?_)
    exact sj_iret (o := sd_oI) hf rfl rfl rfl dX5_errorOf_171
  rw [if_neg e6_8] at hf
  by_cases e6_9 : v2 = 9
  · rw [if_pos e6_9] at hf
    refine sj_tsw 172 dX5_errorOf_6 (k := 9) e6_9 (by decide) (by decide) (by decide) (by decide) ?_
    refine sj_aload_n 0 dX5_errorOf_172 rfl ?_
    refine sj_aload_n 1 dX5_errorOf_173 rfl ?_
    refine sj_aload_n 0 dX5_errorOf_174 rfl ?_
    refine sj_getR fdX5_33_4 hf dX5_errorOf_175 (fun v26 hf => ?_)
    refine sj_iload_n 2 dX5_errorOf_178 rfl ?_
    refine sj_lald hf dX5_errorOf_179 (fun v27 hf => ?_)
    obtain ⟨fs180, he180, hf⟩ := sd_isC_some hf
    refine sj_cI (rest := []) (fun _ _ _ e => sj_runV (n := 2) (As := [.ref a1, .long v27]) (rest := []) (sX5_itsYear l G a0 a1 v27 h _ _ _ e) he180 rfl rfl rfl rfl q3093 q3095 qs78 q127 q3096 (by decide +kernel) rfl rfl ⟨Nat.le_of_ble_eq_true rfl, Nat.le_of_ble_eq_true rfl⟩ rfl (Nat.le_of_ble_eq_true rfl) dX5_errorOf_180) hf (fun r28 h c hf => ?_)
    exact sj_iret (o := sd_oI) hf rfl rfl rfl dX5_errorOf_183
  rw [if_neg e6_9] at hf
  by_cases e6_10 : v2 = 10
  · rw [if_pos e6_10] at hf
    refine sj_tsw 190 dX5_errorOf_6 (k := 10) e6_10 (by decide) (by decide) (by decide) (by decide) ?_
    refine sj_aload_n 0 dX5_errorOf_190 rfl ?_
    refine sj_aload_n 1 dX5_errorOf_191 rfl ?_
    refine sj_iload_n 2 dX5_errorOf_192 rfl ?_
    obtain ⟨fs193, he193, hf⟩ := sd_isC_some hf
    refine sj_cI (rest := []) (fun _ _ _ e => sj_runV (n := 2) (As := [.ref a1, .int a2]) (rest := []) (sX5_anEmpire l G a0 a1 a2 h _ _ _ e) he193 rfl rfl rfl rfl q3101 q3103 qs80 q127 q3104 (by decide +kernel) rfl rfl ⟨Nat.le_of_ble_eq_true rfl, Nat.le_of_ble_eq_true rfl⟩ rfl (Nat.le_of_ble_eq_true rfl) dX5_errorOf_193) hf (fun r29 h c hf => ?_)
    exact sj_iret (o := sd_oI) hf rfl rfl rfl dX5_errorOf_196
  rw [if_neg e6_10] at hf
  by_cases e6_11 : v2 = 11
  · rw [if_pos e6_11] at hf
    refine sj_tsw 184 dX5_errorOf_6 (k := 11) e6_11 (by decide) (by decide) (by decide) (by decide) ?_
    refine sj_aload_n 0 dX5_errorOf_184 rfl ?_
    refine sj_aload_n 1 dX5_errorOf_185 rfl ?_
    obtain ⟨fs186, he186, hf⟩ := sd_isC_some hf
    refine sj_cI (rest := []) (fun _ _ _ e => sj_runV (n := 1) (As := [.ref a1]) (rest := []) (sX5_newOrder l G a0 a1 h _ _ _ e) he186 rfl rfl rfl rfl q3097 q3099 qs79 q127 q3100 (by decide +kernel) rfl rfl ⟨Nat.le_of_ble_eq_true rfl, Nat.le_of_ble_eq_true rfl⟩ rfl (Nat.le_of_ble_eq_true rfl) dX5_errorOf_186) hf (fun r30 h c hf => ?_)
    exact sj_iret (o := sd_oI) hf rfl rfl rfl dX5_errorOf_189
  rw [if_neg e6_11] at hf
  refine sj_tswD 190 dX5_errorOf_6 (by have z0 := lv_neT e6_0 (show (0 : Int32).toInt = 0 by decide); have z1 := lv_neT e6_1 (show (1 : Int32).toInt = 1 by decide); have z2 := lv_neT e6_2 (show (2 : Int32).toInt = 2 by decide); have z3 := lv_neT e6_3 (show (3 : Int32).toInt = 3 by decide); have z4 := lv_neT e6_4 (show (4 : Int32).toInt = 4 by decide); have z5 := lv_neT e6_5 (show (5 : Int32).toInt = 5 by decide); have z6 := lv_neT e6_6 (show (6 : Int32).toInt = 6 by decide); have z7 := lv_neT e6_7 (show (7 : Int32).toInt = 7 by decide); have z8 := lv_neT e6_8 (show (8 : Int32).toInt = 8 by decide); have z9 := lv_neT e6_9 (show (9 : Int32).toInt = 9 by decide); have z10 := lv_neT e6_10 (show (10 : Int32).toInt = 10 by decide); have z11 := lv_neT e6_11 (show (11 : Int32).toInt = 11 by decide); omega) (by decide) ?_
  refine sj_aload_n 0 dX5_errorOf_190 rfl ?_
  refine sj_aload_n 1 dX5_errorOf_191 rfl ?_
  refine sj_iload_n 2 dX5_errorOf_192 rfl ?_
  obtain ⟨fs193, he193, hf⟩ := sd_isC_some hf
  refine sj_cI (rest := []) (fun _ _ _ e => sj_runV (n := 2) (As := [.ref a1, .int a2]) (rest := []) (sX5_anEmpire l G a0 a1 a2 h _ _ _ e) he193 rfl rfl rfl rfl q3101 q3103 qs80 q127 q3104 (by decide +kernel) rfl rfl ⟨Nat.le_of_ble_eq_true rfl, Nat.le_of_ble_eq_true rfl⟩ rfl (Nat.le_of_ble_eq_true rfl) dX5_errorOf_193) hf (fun r31 h c hf => ?_)
  exact sj_iret (o := sd_oI) hf rfl rfl rfl dX5_errorOf_196
/-! SofaDigModel.settle(LSofaDigModel$Plan;)V -/
abbrev cX5_settle : ByteArray := prog_46_method_81_code
def yX5_settle : MethodName := ⟨RX5, "settle", "(LSofaDigModel$Plan;)V"⟩
def dkwX5_settle_2 : List UInt8 := [28, 46, 46, 79, 132, 2, 1, 167, 255, 203, 177]
abbrev dktX5_settle_2 : List UInt8 := dkwX5_settle_2 ++ []
def dkwX5_settle_1 : List UInt8 := [16, 20, 159, 0, 9, 29, 16, 22, 160, 0, 20, 43, 180, 0, 194, 28, 42, 180, 0, 37, 43, 180, 0, 194]
abbrev dktX5_settle_1 : List UInt8 := dkwX5_settle_1 ++ dktX5_settle_2
def dkwX5_settle_0 : List UInt8 := [3, 61, 28, 43, 180, 1, 9, 162, 0, 51, 43, 180, 0, 188, 28, 46, 62, 29, 16, 19, 159, 0, 15, 29]
abbrev dktX5_settle_0 : List UInt8 := dkwX5_settle_0 ++ dktX5_settle_1
theorem dksX5_settle_0 : cX5_settle.data.toList.drop 0 = dktX5_settle_0 := by decide +kernel
theorem dksX5_settle_1 : cX5_settle.data.toList.drop 24 = dktX5_settle_1 := dk_seg dksX5_settle_0 24 rfl rfl
theorem dksX5_settle_2 : cX5_settle.data.toList.drop 48 = dktX5_settle_2 := dk_seg dksX5_settle_1 24 rfl rfl
theorem dX5_settle_0 : decode cX5_settle 0 = .ok (.iconst 0, 1) := dk_3 (dk_at dksX5_settle_0 0 rfl rfl)
theorem dX5_settle_1 : decode cX5_settle 1 = .ok (.istore_n 2, 1) := dk_61 (dk_at dksX5_settle_0 1 rfl rfl)
theorem dX5_settle_2 : decode cX5_settle 2 = .ok (.iload_n 2, 1) := dk_28 (dk_at dksX5_settle_0 2 rfl rfl)
theorem dX5_settle_3 : decode cX5_settle 3 = .ok (.aload_n 1, 1) := dk_43 (dk_at dksX5_settle_0 3 rfl rfl)
theorem dX5_settle_4 : decode cX5_settle 4 = .ok (.getfield 265, 3) := dk_180 1 9 (dk_at dksX5_settle_0 4 rfl rfl)
theorem dX5_settle_7 : decode cX5_settle 7 = .ok (.if_icmp .ge 51, 3) := dk_162 0 51 (dk_at dksX5_settle_0 7 rfl rfl)
theorem dX5_settle_10 : decode cX5_settle 10 = .ok (.aload_n 1, 1) := dk_43 (dk_at dksX5_settle_0 10 rfl rfl)
theorem dX5_settle_11 : decode cX5_settle 11 = .ok (.getfield 188, 3) := dk_180 0 188 (dk_at dksX5_settle_0 11 rfl rfl)
theorem dX5_settle_14 : decode cX5_settle 14 = .ok (.iload_n 2, 1) := dk_28 (dk_at dksX5_settle_0 14 rfl rfl)
theorem dX5_settle_15 : decode cX5_settle 15 = .ok (.iaload, 1) := dk_46 (dk_at dksX5_settle_0 15 rfl rfl)
theorem dX5_settle_16 : decode cX5_settle 16 = .ok (.istore_n 3, 1) := dk_62 (dk_at dksX5_settle_0 16 rfl rfl)
theorem dX5_settle_17 : decode cX5_settle 17 = .ok (.iload_n 3, 1) := dk_29 (dk_at dksX5_settle_0 17 rfl rfl)
theorem dX5_settle_18 : decode cX5_settle 18 = .ok (.bipush 19, 2) := dk_16 19 (dk_at dksX5_settle_0 18 rfl rfl)
theorem dX5_settle_20 : decode cX5_settle 20 = .ok (.if_icmp .eq 15, 3) := dk_159 0 15 (dk_at dksX5_settle_0 20 rfl rfl)
theorem dX5_settle_23 : decode cX5_settle 23 = .ok (.iload_n 3, 1) := dk_29 (dk_at dksX5_settle_0 23 rfl rfl)
theorem dX5_settle_24 : decode cX5_settle 24 = .ok (.bipush 20, 2) := dk_16 20 (dk_at dksX5_settle_1 0 rfl rfl)
theorem dX5_settle_26 : decode cX5_settle 26 = .ok (.if_icmp .eq 9, 3) := dk_159 0 9 (dk_at dksX5_settle_1 2 rfl rfl)
theorem dX5_settle_29 : decode cX5_settle 29 = .ok (.iload_n 3, 1) := dk_29 (dk_at dksX5_settle_1 5 rfl rfl)
theorem dX5_settle_30 : decode cX5_settle 30 = .ok (.bipush 22, 2) := dk_16 22 (dk_at dksX5_settle_1 6 rfl rfl)
theorem dX5_settle_32 : decode cX5_settle 32 = .ok (.if_icmp .ne 20, 3) := dk_160 0 20 (dk_at dksX5_settle_1 8 rfl rfl)
theorem dX5_settle_35 : decode cX5_settle 35 = .ok (.aload_n 1, 1) := dk_43 (dk_at dksX5_settle_1 11 rfl rfl)
theorem dX5_settle_36 : decode cX5_settle 36 = .ok (.getfield 194, 3) := dk_180 0 194 (dk_at dksX5_settle_1 12 rfl rfl)
theorem dX5_settle_39 : decode cX5_settle 39 = .ok (.iload_n 2, 1) := dk_28 (dk_at dksX5_settle_1 15 rfl rfl)
theorem dX5_settle_40 : decode cX5_settle 40 = .ok (.aload_n 0, 1) := dk_42 (dk_at dksX5_settle_1 16 rfl rfl)
theorem dX5_settle_41 : decode cX5_settle 41 = .ok (.getfield 37, 3) := dk_180 0 37 (dk_at dksX5_settle_1 17 rfl rfl)
theorem dX5_settle_44 : decode cX5_settle 44 = .ok (.aload_n 1, 1) := dk_43 (dk_at dksX5_settle_1 20 rfl rfl)
theorem dX5_settle_45 : decode cX5_settle 45 = .ok (.getfield 194, 3) := dk_180 0 194 (dk_at dksX5_settle_1 21 rfl rfl)
theorem dX5_settle_48 : decode cX5_settle 48 = .ok (.iload_n 2, 1) := dk_28 (dk_at dksX5_settle_2 0 rfl rfl)
theorem dX5_settle_49 : decode cX5_settle 49 = .ok (.iaload, 1) := dk_46 (dk_at dksX5_settle_2 1 rfl rfl)
theorem dX5_settle_50 : decode cX5_settle 50 = .ok (.iaload, 1) := dk_46 (dk_at dksX5_settle_2 2 rfl rfl)
theorem dX5_settle_51 : decode cX5_settle 51 = .ok (.iastore, 1) := dk_79 (dk_at dksX5_settle_2 3 rfl rfl)
theorem dX5_settle_52 : decode cX5_settle 52 = .ok (.iinc 2 1, 3) := dk_132 2 1 (dk_at dksX5_settle_2 4 rfl rfl)
theorem dX5_settle_55 : decode cX5_settle 55 = .ok (.goto (-53), 3) := dk_167 255 203 (dk_at dksX5_settle_2 7 rfl rfl)
theorem dX5_settle_58 : decode cX5_settle 58 = .ok (.return_, 1) := dk_177 (dk_at dksX5_settle_2 10 rfl rfl)
abbrev mX5_settle : sd_Y := (yX5_settle, cX5_settle, 4, none, none)
def fX5_settle_b35 (G : sd_G) (k2 : Nat × Nat × Int32 → sd_M Unit) (w0 : Nat) (w1 : Nat) (w2 : Int32) : sd_M Unit :=
  sd_bnd (sd_getR G 5 17 w1) fun v4 =>
  sd_bnd (sd_getR G 4 9 w0) fun v5 =>
  sd_bnd (sd_getR G 5 17 w1) fun v6 =>
  sd_bnd (sd_aldI G 0 v6 w2) fun v7 =>
  sd_bnd (sd_aldI G 0 v5 v7) fun v8 =>
  sd_bnd (sd_astI 0 v4 w2 v8) fun _ =>
  sd_bnd (sd_ret (w2 + 1)) fun x9 =>
  k2 (w0, w1, x9)
set_option maxHeartbeats 4000000 in
theorem sX5_settle_b35 (l : Launch) (G : sd_G) (a0 : Nat) (a1 : Nat) (ρ : Unit) (h2 : sd_H) (cT : Nat × Nat) (k2 : Nat × Nat × Int32 → sd_M Unit) (Hk2 : ∀ (q : Nat × Nat × Int32) (h : sd_H) (c : Nat × Nat), k2 q h = some (ρ, c, h2) → sd_J mX5_settle ((l, G), (0, 0), [.ref a0, .ref a1], (sd_oV ρ, h2), cT) 2 [(0, .ref q.1), (1, .ref q.2.1), (2, .int q.2.2)] [] h c) (w0 : Nat) (w1 : Nat) (w2 : Int32) (h : sd_H) (c : Nat × Nat) (hf : fX5_settle_b35 G k2 w0 w1 w2 h = some (ρ, c, h2)) : sd_J mX5_settle ((l, G), (0, 0), [.ref a0, .ref a1], (sd_oV ρ, h2), cT) 35 [(0, .ref w0), (1, .ref w1), (2, .int w2)] [] h c := by
  unfold fX5_settle_b35 at hf
  refine sj_aload_n 1 dX5_settle_35 rfl ?_
  refine sj_getR fdX5_194_5 hf dX5_settle_36 (fun v4 hf => ?_)
  refine sj_iload_n 2 dX5_settle_39 rfl ?_
  refine sj_aload_n 0 dX5_settle_40 rfl ?_
  refine sj_getR fdX5_37_4 hf dX5_settle_41 (fun v5 hf => ?_)
  refine sj_aload_n 1 dX5_settle_44 rfl ?_
  refine sj_getR fdX5_194_5 hf dX5_settle_45 (fun v6 hf => ?_)
  refine sj_iload_n 2 dX5_settle_48 rfl ?_
  refine sj_iald hf dX5_settle_49 (fun v7 hf => ?_)
  refine sj_iald hf dX5_settle_50 (fun v8 hf => ?_)
  refine sj_iast hf dX5_settle_51 (fun h hf => ?_)
  refine sj_iincN 2 (fun x9 => [(2, .int x9), (0, .ref w0), (1, .ref w1)]) 1 hf dX5_settle_52 rfl (by decide) (by decide) (fun _ => rfl) (fun x9 hf => ?_)
  refine sj_goto 2 dX5_settle_55 (by decide) ?_
  exact sj_loc [1, 2, 0] rfl (Hk2 (w0, w1, x9) _ _ hf)
def fX5_settle_b2 (G : sd_G) (k2 : Nat × Nat × Int32 → sd_M Unit) (w0 : Nat) (w1 : Nat) (w2 : Int32) : sd_M Unit :=
  sd_bnd (sd_getI G 5 18 w1) fun v1 =>
  if v1 ≤ w2 then (
    sd_ret ())
  else (
    sd_bnd (sd_getR G 5 16 w1) fun v2 =>
    sd_bnd (sd_aldI G 0 v2 w2) fun v3 =>
    if v3 = 19 then (
      fX5_settle_b35 G k2 w0 w1 w2)
    else (
      if v3 = 20 then (
        fX5_settle_b35 G k2 w0 w1 w2)
      else (
        if v3 = 22 then (
          fX5_settle_b35 G k2 w0 w1 w2)
        else (
          sd_bnd (sd_ret (w2 + 1)) fun x10 =>
          k2 (w0, w1, x10)))))
set_option maxHeartbeats 4000000 in
theorem sX5_settle_b2 (l : Launch) (G : sd_G) (a0 : Nat) (a1 : Nat) (ρ : Unit) (h2 : sd_H) (cT : Nat × Nat) (k2 : Nat × Nat × Int32 → sd_M Unit) (Hk2 : ∀ (q : Nat × Nat × Int32) (h : sd_H) (c : Nat × Nat), k2 q h = some (ρ, c, h2) → sd_J mX5_settle ((l, G), (0, 0), [.ref a0, .ref a1], (sd_oV ρ, h2), cT) 2 [(0, .ref q.1), (1, .ref q.2.1), (2, .int q.2.2)] [] h c) (w0 : Nat) (w1 : Nat) (w2 : Int32) (h : sd_H) (c : Nat × Nat) (hf : fX5_settle_b2 G k2 w0 w1 w2 h = some (ρ, c, h2)) : sd_J mX5_settle ((l, G), (0, 0), [.ref a0, .ref a1], (sd_oV ρ, h2), cT) 2 [(0, .ref w0), (1, .ref w1), (2, .int w2)] [] h c := by
  unfold fX5_settle_b2 at hf
  refine sj_iload_n 2 dX5_settle_2 rfl ?_
  refine sj_aload_n 1 dX5_settle_3 rfl ?_
  refine sj_getI fdX5_265_5 hf dX5_settle_4 (fun v1 hf => ?_)
  refine sj_icge 58 hf dX5_settle_7 (by decide) (fun g7 hf => ?_) (fun g7 hf => ?_)
  · exact sj_vret (o := sd_oV) hf rfl rfl rfl dX5_settle_58
  · refine sj_aload_n 1 dX5_settle_10 rfl ?_
    refine sj_getR fdX5_188_5 hf dX5_settle_11 (fun v2 hf => ?_)
    refine sj_iload_n 2 dX5_settle_14 rfl ?_
    refine sj_iald hf dX5_settle_15 (fun v3 hf => ?_)
    refine sj_istore_n [(3, .int v3), (0, .ref w0), (1, .ref w1), (2, .int w2)] dX5_settle_16 (by decide) rfl ?_
    refine sj_iload_n 0 dX5_settle_17 rfl ?_
    refine sj_bipush (v := 19) dX5_settle_18 (by decide) ?_
    refine sj_iceq 35 hf dX5_settle_20 (by decide) (fun g20 hf => ?_) (fun g20 hf => ?_)
    · exact sj_loc [1, 2, 3] rfl (sX5_settle_b35 l G a0 a1 ρ h2 cT k2 Hk2 w0 w1 w2 _ _ hf)
    · refine sj_iload_n 0 dX5_settle_23 rfl ?_
      refine sj_bipush (v := 20) dX5_settle_24 (by decide) ?_
      refine sj_iceq 35 hf dX5_settle_26 (by decide) (fun g26 hf => ?_) (fun g26 hf => ?_)
      · exact sj_loc [1, 2, 3] rfl (sX5_settle_b35 l G a0 a1 ρ h2 cT k2 Hk2 w0 w1 w2 _ _ hf)
      · refine sj_iload_n 0 dX5_settle_29 rfl ?_
        refine sj_bipush (v := 22) dX5_settle_30 (by decide) ?_
        refine sj_icne 52 hf dX5_settle_32 (by decide) (fun g32 hf => ?_) (fun g32 hf => ?_)
        · refine sj_iincN 3 (fun x10 => [(2, .int x10), (3, .int v3), (0, .ref w0), (1, .ref w1)]) 1 hf dX5_settle_52 rfl (by decide) (by decide) (fun _ => rfl) (fun x10 hf => ?_)
          refine sj_goto 2 dX5_settle_55 (by decide) ?_
          exact sj_loc [2, 3, 0] rfl (Hk2 (w0, w1, x10) _ _ hf)
        · exact sj_loc [1, 2, 3] rfl (sX5_settle_b35 l G a0 a1 ρ h2 cT k2 Hk2 w0 w1 w2 _ _ hf)
theorem sX5_settle_b2_loop (l : Launch) (G : sd_G) (a0 : Nat) (a1 : Nat) (ρ : Unit) (h2 : sd_H) (cT : Nat × Nat) (n : Nat) : ∀ (q : Nat × Nat × Int32) (h : sd_H) (c : Nat × Nat), sd_loop (fun k s => fX5_settle_b2 G k s.1 s.2.1 s.2.2) n q h = some (ρ, c, h2) → sd_J mX5_settle ((l, G), (0, 0), [.ref a0, .ref a1], (sd_oV ρ, h2), cT) 2 [(0, .ref q.1), (1, .ref q.2.1), (2, .int q.2.2)] [] h c := by
  induction n with
  | zero => intro q h c hf; cases hf
  | succ n ih => intro q h c hf; exact sX5_settle_b2 l G a0 a1 ρ h2 cT _ ih _ _ _ _ _ hf
def fX5_settle (G : sd_G) (a0 : Nat) (a1 : Nat) : sd_M Unit :=
  sd_loop (fun k s => fX5_settle_b2 G k s.1 s.2.1 s.2.2) sd_FU (a0, a1, 0)
set_option maxHeartbeats 4000000 in
theorem sX5_settle (l : Launch) (G : sd_G) (a0 : Nat) (a1 : Nat) (h : sd_H) (ρ : Unit) (cT : Nat × Nat) (h2 : sd_H) (hf : fX5_settle G a0 a1 h = some (ρ, cT, h2)) : sd_Met mX5_settle ((l, G), (0, 0), [.ref a0, .ref a1], (sd_oV ρ, h2), cT) h := by
  refine sd_entry (plainFor_of_name rfl) rfl (Nat.le_of_ble_eq_true rfl) ?_
  show sd_J mX5_settle ((l, G), (0, 0), [.ref a0, .ref a1], (sd_oV ρ, h2), cT) 0 [(0, .ref a0), (1, .ref a1)] [] h cT
  unfold fX5_settle at hf
  refine sj_iconst (v := 0) dX5_settle_0 (by decide) ?_
  refine sj_istore_n [(2, .int 0), (0, .ref a0), (1, .ref a1)] dX5_settle_1 (by decide) rfl ?_
  exact sj_loc [1, 2, 0] rfl (sX5_settle_b2_loop l G a0 a1 ρ h2 cT sd_FU (a0, a1, 0) _ _ hf)
/-! SofaDigModel.read(LSofaDigModel$Plan;)I -/
abbrev cX5_read : ByteArray := prog_46_method_82_code
def yX5_read : MethodName := ⟨RX5, "read", "(LSofaDigModel$Plan;)I"⟩
def dkwX5_read_3 : List UInt8 := [180, 0, 27, 28, 46, 181, 0, 13, 29, 172, 132, 2, 1, 167, 255, 219, 42, 43, 182, 1, 136, 3, 172]
abbrev dktX5_read_3 : List UInt8 := dkwX5_read_3 ++ []
def dkwX5_read_2 : List UInt8 := [180, 1, 0, 162, 0, 35, 42, 43, 28, 182, 1, 133, 62, 29, 154, 0, 6, 167, 0, 15, 42, 42]
abbrev dktX5_read_2 : List UInt8 := dkwX5_read_2 ++ dktX5_read_3
def dkwX5_read_1 : List UInt8 := [154, 0, 18, 42, 42, 180, 0, 27, 42, 180, 1, 0, 46, 181, 0, 13, 4, 172, 3, 61, 28, 42]
abbrev dktX5_read_1 : List UInt8 := dkwX5_read_1 ++ dktX5_read_2
def dkwX5_read_0 : List UInt8 := [42, 182, 1, 127, 42, 3, 181, 1, 0, 42, 3, 181, 1, 6, 42, 3, 181, 1, 57, 42, 43, 182, 1, 130]
abbrev dktX5_read_0 : List UInt8 := dkwX5_read_0 ++ dktX5_read_1
theorem dksX5_read_0 : cX5_read.data.toList.drop 0 = dktX5_read_0 := by decide +kernel
theorem dksX5_read_1 : cX5_read.data.toList.drop 24 = dktX5_read_1 := dk_seg dksX5_read_0 24 rfl rfl
theorem dksX5_read_2 : cX5_read.data.toList.drop 46 = dktX5_read_2 := dk_seg dksX5_read_1 22 rfl rfl
theorem dksX5_read_3 : cX5_read.data.toList.drop 68 = dktX5_read_3 := dk_seg dksX5_read_2 22 rfl rfl
theorem dX5_read_0 : decode cX5_read 0 = .ok (.aload_n 0, 1) := dk_42 (dk_at dksX5_read_0 0 rfl rfl)
theorem dX5_read_1 : decode cX5_read 1 = .ok (.invokevirtual 383, 3) := dk_182 1 127 (dk_at dksX5_read_0 1 rfl rfl)
theorem dX5_read_4 : decode cX5_read 4 = .ok (.aload_n 0, 1) := dk_42 (dk_at dksX5_read_0 4 rfl rfl)
theorem dX5_read_5 : decode cX5_read 5 = .ok (.iconst 0, 1) := dk_3 (dk_at dksX5_read_0 5 rfl rfl)
theorem dX5_read_6 : decode cX5_read 6 = .ok (.putfield 256, 3) := dk_181 1 0 (dk_at dksX5_read_0 6 rfl rfl)
theorem dX5_read_9 : decode cX5_read 9 = .ok (.aload_n 0, 1) := dk_42 (dk_at dksX5_read_0 9 rfl rfl)
theorem dX5_read_10 : decode cX5_read 10 = .ok (.iconst 0, 1) := dk_3 (dk_at dksX5_read_0 10 rfl rfl)
theorem dX5_read_11 : decode cX5_read 11 = .ok (.putfield 262, 3) := dk_181 1 6 (dk_at dksX5_read_0 11 rfl rfl)
theorem dX5_read_14 : decode cX5_read 14 = .ok (.aload_n 0, 1) := dk_42 (dk_at dksX5_read_0 14 rfl rfl)
theorem dX5_read_15 : decode cX5_read 15 = .ok (.iconst 0, 1) := dk_3 (dk_at dksX5_read_0 15 rfl rfl)
theorem dX5_read_16 : decode cX5_read 16 = .ok (.putfield 313, 3) := dk_181 1 57 (dk_at dksX5_read_0 16 rfl rfl)
theorem dX5_read_19 : decode cX5_read 19 = .ok (.aload_n 0, 1) := dk_42 (dk_at dksX5_read_0 19 rfl rfl)
theorem dX5_read_20 : decode cX5_read 20 = .ok (.aload_n 1, 1) := dk_43 (dk_at dksX5_read_0 20 rfl rfl)
theorem dX5_read_21 : decode cX5_read 21 = .ok (.invokevirtual 386, 3) := dk_182 1 130 (dk_at dksX5_read_0 21 rfl rfl)
theorem dX5_read_24 : decode cX5_read 24 = .ok (.ifCond .ne 18, 3) := dk_154 0 18 (dk_at dksX5_read_1 0 rfl rfl)
theorem dX5_read_27 : decode cX5_read 27 = .ok (.aload_n 0, 1) := dk_42 (dk_at dksX5_read_1 3 rfl rfl)
theorem dX5_read_28 : decode cX5_read 28 = .ok (.aload_n 0, 1) := dk_42 (dk_at dksX5_read_1 4 rfl rfl)
theorem dX5_read_29 : decode cX5_read 29 = .ok (.getfield 27, 3) := dk_180 0 27 (dk_at dksX5_read_1 5 rfl rfl)
theorem dX5_read_32 : decode cX5_read 32 = .ok (.aload_n 0, 1) := dk_42 (dk_at dksX5_read_1 8 rfl rfl)
theorem dX5_read_33 : decode cX5_read 33 = .ok (.getfield 256, 3) := dk_180 1 0 (dk_at dksX5_read_1 9 rfl rfl)
theorem dX5_read_36 : decode cX5_read 36 = .ok (.iaload, 1) := dk_46 (dk_at dksX5_read_1 12 rfl rfl)
theorem dX5_read_37 : decode cX5_read 37 = .ok (.putfield 13, 3) := dk_181 0 13 (dk_at dksX5_read_1 13 rfl rfl)
theorem dX5_read_40 : decode cX5_read 40 = .ok (.iconst 1, 1) := dk_4 (dk_at dksX5_read_1 16 rfl rfl)
theorem dX5_read_41 : decode cX5_read 41 = .ok (.ireturn, 1) := dk_172 (dk_at dksX5_read_1 17 rfl rfl)
theorem dX5_read_42 : decode cX5_read 42 = .ok (.iconst 0, 1) := dk_3 (dk_at dksX5_read_1 18 rfl rfl)
theorem dX5_read_43 : decode cX5_read 43 = .ok (.istore_n 2, 1) := dk_61 (dk_at dksX5_read_1 19 rfl rfl)
theorem dX5_read_44 : decode cX5_read 44 = .ok (.iload_n 2, 1) := dk_28 (dk_at dksX5_read_1 20 rfl rfl)
theorem dX5_read_45 : decode cX5_read 45 = .ok (.aload_n 0, 1) := dk_42 (dk_at dksX5_read_1 21 rfl rfl)
theorem dX5_read_46 : decode cX5_read 46 = .ok (.getfield 256, 3) := dk_180 1 0 (dk_at dksX5_read_2 0 rfl rfl)
theorem dX5_read_49 : decode cX5_read 49 = .ok (.if_icmp .ge 35, 3) := dk_162 0 35 (dk_at dksX5_read_2 3 rfl rfl)
theorem dX5_read_52 : decode cX5_read 52 = .ok (.aload_n 0, 1) := dk_42 (dk_at dksX5_read_2 6 rfl rfl)
theorem dX5_read_53 : decode cX5_read 53 = .ok (.aload_n 1, 1) := dk_43 (dk_at dksX5_read_2 7 rfl rfl)
theorem dX5_read_54 : decode cX5_read 54 = .ok (.iload_n 2, 1) := dk_28 (dk_at dksX5_read_2 8 rfl rfl)
theorem dX5_read_55 : decode cX5_read 55 = .ok (.invokevirtual 389, 3) := dk_182 1 133 (dk_at dksX5_read_2 9 rfl rfl)
theorem dX5_read_58 : decode cX5_read 58 = .ok (.istore_n 3, 1) := dk_62 (dk_at dksX5_read_2 12 rfl rfl)
theorem dX5_read_59 : decode cX5_read 59 = .ok (.iload_n 3, 1) := dk_29 (dk_at dksX5_read_2 13 rfl rfl)
theorem dX5_read_60 : decode cX5_read 60 = .ok (.ifCond .ne 6, 3) := dk_154 0 6 (dk_at dksX5_read_2 14 rfl rfl)
theorem dX5_read_63 : decode cX5_read 63 = .ok (.goto 15, 3) := dk_167 0 15 (dk_at dksX5_read_2 17 rfl rfl)
theorem dX5_read_66 : decode cX5_read 66 = .ok (.aload_n 0, 1) := dk_42 (dk_at dksX5_read_2 20 rfl rfl)
theorem dX5_read_67 : decode cX5_read 67 = .ok (.aload_n 0, 1) := dk_42 (dk_at dksX5_read_2 21 rfl rfl)
theorem dX5_read_68 : decode cX5_read 68 = .ok (.getfield 27, 3) := dk_180 0 27 (dk_at dksX5_read_3 0 rfl rfl)
theorem dX5_read_71 : decode cX5_read 71 = .ok (.iload_n 2, 1) := dk_28 (dk_at dksX5_read_3 3 rfl rfl)
theorem dX5_read_72 : decode cX5_read 72 = .ok (.iaload, 1) := dk_46 (dk_at dksX5_read_3 4 rfl rfl)
theorem dX5_read_73 : decode cX5_read 73 = .ok (.putfield 13, 3) := dk_181 0 13 (dk_at dksX5_read_3 5 rfl rfl)
theorem dX5_read_76 : decode cX5_read 76 = .ok (.iload_n 3, 1) := dk_29 (dk_at dksX5_read_3 8 rfl rfl)
theorem dX5_read_77 : decode cX5_read 77 = .ok (.ireturn, 1) := dk_172 (dk_at dksX5_read_3 9 rfl rfl)
theorem dX5_read_78 : decode cX5_read 78 = .ok (.iinc 2 1, 3) := dk_132 2 1 (dk_at dksX5_read_3 10 rfl rfl)
theorem dX5_read_81 : decode cX5_read 81 = .ok (.goto (-37), 3) := dk_167 255 219 (dk_at dksX5_read_3 13 rfl rfl)
theorem dX5_read_84 : decode cX5_read 84 = .ok (.aload_n 0, 1) := dk_42 (dk_at dksX5_read_3 16 rfl rfl)
theorem dX5_read_85 : decode cX5_read 85 = .ok (.aload_n 1, 1) := dk_43 (dk_at dksX5_read_3 17 rfl rfl)
theorem dX5_read_86 : decode cX5_read 86 = .ok (.invokevirtual 392, 3) := dk_182 1 136 (dk_at dksX5_read_3 18 rfl rfl)
theorem dX5_read_89 : decode cX5_read 89 = .ok (.iconst 0, 1) := dk_3 (dk_at dksX5_read_3 21 rfl rfl)
theorem dX5_read_90 : decode cX5_read 90 = .ok (.ireturn, 1) := dk_172 (dk_at dksX5_read_3 22 rfl rfl)
abbrev mX5_read : sd_Y := (yX5_read, cX5_read, 4, some (.int), none)
def fX5_read_b44 (G : sd_G) (k44 : Nat × Nat × Int32 → sd_M Int32) (w0 : Nat) (w1 : Nat) (w2 : Int32) : sd_M Int32 :=
  sd_bnd (sd_getI G 4 10 w0) fun v2 =>
  if v2 ≤ w2 then (
    sd_bnd (sd_isC G 4 w0) fun _ =>
    sd_bnd (fX5_settle G w0 w1) fun _ =>
    sd_ret 0)
  else (
    sd_bnd (sd_isC G 4 w0) fun _ =>
    sd_bnd (fX5_errorOf G w0 w1 w2) fun r3 =>
    if r3 = 0 then (
      sd_bnd (sd_ret (w2 + 1)) fun x6 =>
      k44 (w0, w1, x6))
    else (
      sd_bnd (sd_getR G 4 6 w0) fun v4 =>
      sd_bnd (sd_aldI G 0 v4 w2) fun v5 =>
      sd_bnd (sd_put 4 3 .int w0 (.int v5)) fun _ =>
      sd_ret r3))
set_option maxHeartbeats 4000000 in
theorem sX5_read_b44 (l : Launch) (G : sd_G) (a0 : Nat) (a1 : Nat) (ρ : Int32) (h2 : sd_H) (cT : Nat × Nat) (k44 : Nat × Nat × Int32 → sd_M Int32) (Hk44 : ∀ (q : Nat × Nat × Int32) (h : sd_H) (c : Nat × Nat), k44 q h = some (ρ, c, h2) → sd_J mX5_read ((l, G), (113, 4910), [.ref a0, .ref a1], (sd_oI ρ, h2), cT) 44 [(0, .ref q.1), (1, .ref q.2.1), (2, .int q.2.2)] [] h c) (w0 : Nat) (w1 : Nat) (w2 : Int32) (h : sd_H) (c : Nat × Nat) (hf : fX5_read_b44 G k44 w0 w1 w2 h = some (ρ, c, h2)) : sd_J mX5_read ((l, G), (113, 4910), [.ref a0, .ref a1], (sd_oI ρ, h2), cT) 44 [(0, .ref w0), (1, .ref w1), (2, .int w2)] [] h c := by
  unfold fX5_read_b44 at hf
  refine sj_iload_n 2 dX5_read_44 rfl ?_
  refine sj_aload_n 0 dX5_read_45 rfl ?_
  refine sj_getI fdX5_256_4 hf dX5_read_46 (fun v2 hf => ?_)
  refine sj_icge 84 hf dX5_read_49 (by decide) (fun g49 hf => ?_) (fun g49 hf => ?_)
  · refine sj_aload_n 0 dX5_read_84 rfl ?_
    refine sj_aload_n 1 dX5_read_85 rfl ?_
    obtain ⟨fs86, he86, hf⟩ := sd_isC_some hf
    refine sj_cV (rest := []) (fun _ _ _ e => sj_runV (n := 1) (As := [.ref w1]) (rest := []) (sX5_settle l G w0 w1 h _ _ _ e) he86 rfl rfl rfl rfl q3105 q3107 qs81 q127 q3108 (by decide +kernel) rfl rfl ⟨Nat.le_of_ble_eq_true rfl, Nat.le_of_ble_eq_true rfl⟩ rfl (Nat.le_of_ble_eq_true rfl) dX5_read_86) hf (fun h c hf => ?_)
    refine sj_iconst (v := 0) dX5_read_89 (by decide) ?_
    exact sj_iret (o := sd_oI) hf rfl rfl rfl dX5_read_90
  · refine sj_aload_n 0 dX5_read_52 rfl ?_
    refine sj_aload_n 1 dX5_read_53 rfl ?_
    refine sj_iload_n 2 dX5_read_54 rfl ?_
    obtain ⟨fs55, he55, hf⟩ := sd_isC_some hf
    refine sj_cI (rest := []) (fun _ _ _ e => sj_runV (n := 2) (As := [.ref w1, .int w2]) (rest := []) (sX5_errorOf l G w0 w1 w2 h _ _ _ e) he55 rfl rfl rfl rfl q3054 q3056 qs70 q127 q3057 (by decide +kernel) rfl rfl ⟨Nat.le_of_ble_eq_true rfl, Nat.le_of_ble_eq_true rfl⟩ rfl (Nat.le_of_ble_eq_true rfl) dX5_read_55) hf (fun r3 h c hf => ?_)
    refine sj_istore_n [(3, .int r3), (0, .ref w0), (1, .ref w1), (2, .int w2)] dX5_read_58 (by decide) rfl ?_
    refine sj_iload_n 0 dX5_read_59 rfl ?_
    refine sj_ifne 66 hf dX5_read_60 (by decide) (fun g60 hf => ?_) (fun g60 hf => ?_)
    · refine sj_aload_n 1 dX5_read_66 rfl ?_
      refine sj_aload_n 1 dX5_read_67 rfl ?_
      refine sj_getR fdX5_27_4 hf dX5_read_68 (fun v4 hf => ?_)
      refine sj_iload_n 3 dX5_read_71 rfl ?_
      refine sj_iald hf dX5_read_72 (fun v5 hf => ?_)
      refine sj_put (fpX5_13_4 _ _) hf dX5_read_73 (fun h hf => ?_)
      refine sj_iload_n 0 dX5_read_76 rfl ?_
      exact sj_iret (o := sd_oI) hf rfl rfl rfl dX5_read_77
    · refine sj_goto 78 dX5_read_63 (by decide) ?_
      refine sj_iincN 3 (fun x6 => [(2, .int x6), (3, .int r3), (0, .ref w0), (1, .ref w1)]) 1 hf dX5_read_78 rfl (by decide) (by decide) (fun _ => rfl) (fun x6 hf => ?_)
      refine sj_goto 44 dX5_read_81 (by decide) ?_
      exact sj_loc [2, 3, 0] rfl (Hk44 (w0, w1, x6) _ _ hf)
theorem sX5_read_b44_loop (l : Launch) (G : sd_G) (a0 : Nat) (a1 : Nat) (ρ : Int32) (h2 : sd_H) (cT : Nat × Nat) (n : Nat) : ∀ (q : Nat × Nat × Int32) (h : sd_H) (c : Nat × Nat), sd_loop (fun k s => fX5_read_b44 G k s.1 s.2.1 s.2.2) n q h = some (ρ, c, h2) → sd_J mX5_read ((l, G), (113, 4910), [.ref a0, .ref a1], (sd_oI ρ, h2), cT) 44 [(0, .ref q.1), (1, .ref q.2.1), (2, .int q.2.2)] [] h c := by
  induction n with
  | zero => intro q h c hf; cases hf
  | succ n ih => intro q h c hf; exact sX5_read_b44 l G a0 a1 ρ h2 cT _ ih _ _ _ _ _ hf
def fX5_read (G : sd_G) (a0 : Nat) (a1 : Nat) : sd_M Int32 :=
  sd_bnd (sd_isC G 4 a0) fun _ =>
  sd_bnd (fX5_cutIntoTokens G a0) fun _ =>
  sd_bnd (sd_put 4 10 .int a0 (.int 0)) fun _ =>
  sd_bnd (sd_put 4 11 .int a0 (.int 0)) fun _ =>
  sd_bnd (sd_put 4 12 .int a0 (.int 0)) fun _ =>
  sd_bnd (sd_isC G 4 a0) fun _ =>
  sd_bnd (fX5_isBook G a0 a1) fun r1 =>
  if r1 = 0 then (
    sd_bnd (sd_getR G 4 6 a0) fun v7 =>
    sd_bnd (sd_getI G 4 10 a0) fun v8 =>
    sd_bnd (sd_aldI G 0 v7 v8) fun v9 =>
    sd_bnd (sd_put 4 3 .int a0 (.int v9)) fun _ =>
    sd_ret 1)
  else (
    sd_loop (fun k s => fX5_read_b44 G k s.1 s.2.1 s.2.2) sd_FU (a0, a1, 0))
set_option maxHeartbeats 4000000 in
theorem sX5_read (l : Launch) (G : sd_G) (a0 : Nat) (a1 : Nat) (h : sd_H) (ρ : Int32) (cT : Nat × Nat) (h2 : sd_H) (hf : fX5_read G a0 a1 h = some (ρ, cT, h2)) : sd_Met mX5_read ((l, G), (113, 4910), [.ref a0, .ref a1], (sd_oI ρ, h2), cT) h := by
  refine sd_entry (plainFor_of_name rfl) rfl (Nat.le_of_ble_eq_true rfl) ?_
  show sd_J mX5_read ((l, G), (113, 4910), [.ref a0, .ref a1], (sd_oI ρ, h2), cT) 0 [(0, .ref a0), (1, .ref a1)] [] h cT
  unfold fX5_read at hf
  refine sj_aload_n 0 dX5_read_0 rfl ?_
  obtain ⟨fs1, he1, hf⟩ := sd_isC_some hf
  refine sj_cV (rest := []) (fun _ _ _ e => sj_runV (n := 0) (As := []) (rest := []) (sX5_cutIntoTokens l G a0 h _ _ _ e) he1 rfl rfl rfl rfl q2932 q2934 qs44 q127 q2935 (by decide +kernel) rfl rfl ⟨Nat.le_of_ble_eq_true rfl, Nat.le_of_ble_eq_true rfl⟩ rfl (Nat.le_of_ble_eq_true rfl) dX5_read_1) hf (fun h c hf => ?_)
  refine sj_aload_n 0 dX5_read_4 rfl ?_
  refine sj_iconst (v := 0) dX5_read_5 (by decide) ?_
  refine sj_put (fpX5_256_4 _ _) hf dX5_read_6 (fun h hf => ?_)
  refine sj_aload_n 0 dX5_read_9 rfl ?_
  refine sj_iconst (v := 0) dX5_read_10 (by decide) ?_
  refine sj_put (fpX5_262_4 _ _) hf dX5_read_11 (fun h hf => ?_)
  refine sj_aload_n 0 dX5_read_14 rfl ?_
  refine sj_iconst (v := 0) dX5_read_15 (by decide) ?_
  refine sj_put (fpX5_313_4 _ _) hf dX5_read_16 (fun h hf => ?_)
  refine sj_aload_n 0 dX5_read_19 rfl ?_
  refine sj_aload_n 1 dX5_read_20 rfl ?_
  obtain ⟨fs21, he21, hf⟩ := sd_isC_some hf
  refine sj_cI (rest := []) (fun _ _ _ e => sj_runV (n := 1) (As := [.ref a1]) (rest := []) (sX5_isBook l G a0 a1 h _ _ _ e) he21 rfl rfl rfl rfl q2973 q2975 qs50 q127 q2976 (by decide +kernel) rfl rfl ⟨Nat.le_of_ble_eq_true rfl, Nat.le_of_ble_eq_true rfl⟩ rfl (Nat.le_of_ble_eq_true rfl) dX5_read_21) hf (fun r1 h c hf => ?_)
  refine sj_ifne 42 hf dX5_read_24 (by decide) (fun g24 hf => ?_) (fun g24 hf => ?_)
  · refine sj_iconst (v := 0) dX5_read_42 (by decide) ?_
    refine sj_istore_n [(2, .int 0), (0, .ref a0), (1, .ref a1)] dX5_read_43 (by decide) rfl ?_
    exact sj_loc [1, 2, 0] rfl (sX5_read_b44_loop l G a0 a1 ρ h2 cT sd_FU (a0, a1, 0) _ _ hf)
  · refine sj_aload_n 0 dX5_read_27 rfl ?_
    refine sj_aload_n 0 dX5_read_28 rfl ?_
    refine sj_getR fdX5_27_4 hf dX5_read_29 (fun v7 hf => ?_)
    refine sj_aload_n 0 dX5_read_32 rfl ?_
    refine sj_getI fdX5_256_4 hf dX5_read_33 (fun v8 hf => ?_)
    refine sj_iald hf dX5_read_36 (fun v9 hf => ?_)
    refine sj_put (fpX5_13_4 _ _) hf dX5_read_37 (fun h hf => ?_)
    refine sj_iconst (v := 1) dX5_read_40 (by decide) ?_
    exact sj_iret (o := sd_oI) hf rfl rfl rfl dX5_read_41
/-! SofaDigModel.teach()I -/
abbrev cX5_teach : ByteArray := prog_46_method_85_code
def yX5_teach : MethodName := ⟨RX5, "teach", "()I"⟩
def dkwX5_teach_1 : List UInt8 := [42, 3, 181, 0, 210, 28, 158, 0, 5, 28, 172, 42, 43, 181, 0, 20, 42, 182, 0, 49, 3, 172]
abbrev dktX5_teach_1 : List UInt8 := dkwX5_teach_1 ++ []
def dkwX5_teach_0 : List UInt8 := [42, 3, 181, 0, 58, 42, 2, 181, 0, 13, 187, 0, 17, 89, 183, 0, 19, 76, 42, 43, 182, 1, 142, 61]
abbrev dktX5_teach_0 : List UInt8 := dkwX5_teach_0 ++ dktX5_teach_1
theorem dksX5_teach_0 : cX5_teach.data.toList.drop 0 = dktX5_teach_0 := by decide +kernel
theorem dksX5_teach_1 : cX5_teach.data.toList.drop 24 = dktX5_teach_1 := dk_seg dksX5_teach_0 24 rfl rfl
theorem dX5_teach_0 : decode cX5_teach 0 = .ok (.aload_n 0, 1) := dk_42 (dk_at dksX5_teach_0 0 rfl rfl)
theorem dX5_teach_1 : decode cX5_teach 1 = .ok (.iconst 0, 1) := dk_3 (dk_at dksX5_teach_0 1 rfl rfl)
theorem dX5_teach_2 : decode cX5_teach 2 = .ok (.putfield 58, 3) := dk_181 0 58 (dk_at dksX5_teach_0 2 rfl rfl)
theorem dX5_teach_5 : decode cX5_teach 5 = .ok (.aload_n 0, 1) := dk_42 (dk_at dksX5_teach_0 5 rfl rfl)
theorem dX5_teach_6 : decode cX5_teach 6 = .ok (.iconst (-1), 1) := dk_2 (dk_at dksX5_teach_0 6 rfl rfl)
theorem dX5_teach_7 : decode cX5_teach 7 = .ok (.putfield 13, 3) := dk_181 0 13 (dk_at dksX5_teach_0 7 rfl rfl)
theorem dX5_teach_10 : decode cX5_teach 10 = .ok (.new 17, 3) := dk_187 0 17 (dk_at dksX5_teach_0 10 rfl rfl)
theorem dX5_teach_13 : decode cX5_teach 13 = .ok (.dup, 1) := dk_89 (dk_at dksX5_teach_0 13 rfl rfl)
theorem dX5_teach_14 : decode cX5_teach 14 = .ok (.invokespecial 19, 3) := dk_183 0 19 (dk_at dksX5_teach_0 14 rfl rfl)
theorem dX5_teach_17 : decode cX5_teach 17 = .ok (.astore_n 1, 1) := dk_76 (dk_at dksX5_teach_0 17 rfl rfl)
theorem dX5_teach_18 : decode cX5_teach 18 = .ok (.aload_n 0, 1) := dk_42 (dk_at dksX5_teach_0 18 rfl rfl)
theorem dX5_teach_19 : decode cX5_teach 19 = .ok (.aload_n 1, 1) := dk_43 (dk_at dksX5_teach_0 19 rfl rfl)
theorem dX5_teach_20 : decode cX5_teach 20 = .ok (.invokevirtual 398, 3) := dk_182 1 142 (dk_at dksX5_teach_0 20 rfl rfl)
theorem dX5_teach_23 : decode cX5_teach 23 = .ok (.istore_n 2, 1) := dk_61 (dk_at dksX5_teach_0 23 rfl rfl)
theorem dX5_teach_24 : decode cX5_teach 24 = .ok (.aload_n 0, 1) := dk_42 (dk_at dksX5_teach_1 0 rfl rfl)
theorem dX5_teach_25 : decode cX5_teach 25 = .ok (.iconst 0, 1) := dk_3 (dk_at dksX5_teach_1 1 rfl rfl)
theorem dX5_teach_26 : decode cX5_teach 26 = .ok (.putfield 210, 3) := dk_181 0 210 (dk_at dksX5_teach_1 2 rfl rfl)
theorem dX5_teach_29 : decode cX5_teach 29 = .ok (.iload_n 2, 1) := dk_28 (dk_at dksX5_teach_1 5 rfl rfl)
theorem dX5_teach_30 : decode cX5_teach 30 = .ok (.ifCond .le 5, 3) := dk_158 0 5 (dk_at dksX5_teach_1 6 rfl rfl)
theorem dX5_teach_33 : decode cX5_teach 33 = .ok (.iload_n 2, 1) := dk_28 (dk_at dksX5_teach_1 9 rfl rfl)
theorem dX5_teach_34 : decode cX5_teach 34 = .ok (.ireturn, 1) := dk_172 (dk_at dksX5_teach_1 10 rfl rfl)
theorem dX5_teach_35 : decode cX5_teach 35 = .ok (.aload_n 0, 1) := dk_42 (dk_at dksX5_teach_1 11 rfl rfl)
theorem dX5_teach_36 : decode cX5_teach 36 = .ok (.aload_n 1, 1) := dk_43 (dk_at dksX5_teach_1 12 rfl rfl)
theorem dX5_teach_37 : decode cX5_teach 37 = .ok (.putfield 20, 3) := dk_181 0 20 (dk_at dksX5_teach_1 13 rfl rfl)
theorem dX5_teach_40 : decode cX5_teach 40 = .ok (.aload_n 0, 1) := dk_42 (dk_at dksX5_teach_1 16 rfl rfl)
theorem dX5_teach_41 : decode cX5_teach 41 = .ok (.invokevirtual 49, 3) := dk_182 0 49 (dk_at dksX5_teach_1 17 rfl rfl)
theorem dX5_teach_44 : decode cX5_teach 44 = .ok (.iconst 0, 1) := dk_3 (dk_at dksX5_teach_1 20 rfl rfl)
theorem dX5_teach_45 : decode cX5_teach 45 = .ok (.ireturn, 1) := dk_172 (dk_at dksX5_teach_1 21 rfl rfl)
abbrev mX5_teach : sd_Y := (yX5_teach, cX5_teach, 3, some (.int), none)
def fX5_teach (G : sd_G) (a0 : Nat) : sd_M Int32 :=
  sd_bnd (sd_put 4 0 .int a0 (.int 0)) fun _ =>
  sd_bnd (sd_put 4 3 .int a0 (.int (-1))) fun _ =>
  sd_bnd (sd_new 5 19 [.int 0, .int 0, .int 0, .null, .null, .null, .int 0, .null, .null, .null, .null, .null, .int 0, .null, .null, .null, .null, .null, .int 0]) fun o1 =>
  sd_bnd (fX6_init G o1) fun _ =>
  sd_bnd (sd_isC G 4 a0) fun _ =>
  sd_bnd (fX5_read G a0 o1) fun r2 =>
  sd_bnd (sd_put 4 2 .int a0 (.int 0)) fun _ =>
  if r2 ≤ 0 then (
    sd_bnd (sd_put 4 4 (.object "SofaDigModel$Plan") a0 (.ref o1)) fun _ =>
    sd_bnd (sd_isC G 4 a0) fun _ =>
    sd_bnd (fX5_fill G a0) fun _ =>
    sd_ret 0)
  else (
    sd_ret r2)
set_option maxHeartbeats 4000000 in
theorem sX5_teach (l : Launch) (G : sd_G) (a0 : Nat) (h : sd_H) (ρ : Int32) (cT : Nat × Nat) (h2 : sd_H) (hf : fX5_teach G a0 h = some (ρ, cT, h2)) : sd_Met mX5_teach ((l, G), (114, 4933), [.ref a0], (sd_oI ρ, h2), cT) h := by
  refine sd_entry (plainFor_of_name rfl) rfl (Nat.le_of_ble_eq_true rfl) ?_
  show sd_J mX5_teach ((l, G), (114, 4933), [.ref a0], (sd_oI ρ, h2), cT) 0 [(0, .ref a0)] [] h cT
  unfold fX5_teach at hf
  refine sj_aload_n 0 dX5_teach_0 rfl ?_
  refine sj_iconst (v := 0) dX5_teach_1 (by decide) ?_
  refine sj_put (fpX5_58_4 _ _) hf dX5_teach_2 (fun h hf => ?_)
  refine sj_aload_n 0 dX5_teach_5 rfl ?_
  refine sj_iconst (v := (-1)) dX5_teach_6 (by decide) ?_
  refine sj_put (fpX5_13_4 _ _) hf dX5_teach_7 (fun h hf => ?_)
  refine sj_new fnX5_17 hf dX5_teach_10 (fun o1 h c hf => ?_)
  refine sj_dup dX5_teach_13 rfl ?_
  refine sj_cV (rest := [.ref o1]) (fun _ _ _ e => sj_runI (n := 0) (a := o1) (As := []) (rest := [.ref o1]) (sX6_init l G o1 h _ _ _ e) rfl rfl q2767 q2768 q128 q2769 rfl (by decide +kernel) rfl rfl (fun _ z => by cases z) ⟨Nat.le_of_ble_eq_true rfl, Nat.le_of_ble_eq_true rfl⟩ rfl (Nat.le_of_ble_eq_true rfl) dX5_teach_14) hf (fun h c hf => ?_)
  refine sj_astore_n [(1, .ref o1), (0, .ref a0)] dX5_teach_17 (by decide) rfl ?_
  refine sj_aload_n 1 dX5_teach_18 rfl ?_
  refine sj_aload_n 0 dX5_teach_19 rfl ?_
  obtain ⟨fs20, he20, hf⟩ := sd_isC_some hf
  refine sj_cI (rest := []) (fun _ _ _ e => sj_runV (n := 1) (As := [.ref o1]) (rest := []) (sX5_read l G a0 o1 h _ _ _ e) he20 rfl rfl rfl rfl q2928 q2930 qs43 q127 q2931 (by decide +kernel) rfl rfl ⟨Nat.le_of_ble_eq_true rfl, Nat.le_of_ble_eq_true rfl⟩ rfl (Nat.le_of_ble_eq_true rfl) dX5_teach_20) hf (fun r2 h c hf => ?_)
  refine sj_istore_n [(2, .int r2), (1, .ref o1), (0, .ref a0)] dX5_teach_23 (by decide) rfl ?_
  refine sj_aload_n 2 dX5_teach_24 rfl ?_
  refine sj_iconst (v := 0) dX5_teach_25 (by decide) ?_
  refine sj_put (fpX5_210_4 _ _) hf dX5_teach_26 (fun h hf => ?_)
  refine sj_iload_n 0 dX5_teach_29 rfl ?_
  refine sj_ifle 35 hf dX5_teach_30 (by decide) (fun g30 hf => ?_) (fun g30 hf => ?_)
  · refine sj_aload_n 2 dX5_teach_35 rfl ?_
    refine sj_aload_n 1 dX5_teach_36 rfl ?_
    refine sj_put (fpX5_20_4 _ _) hf dX5_teach_37 (fun h hf => ?_)
    refine sj_aload_n 2 dX5_teach_40 rfl ?_
    obtain ⟨fs41, he41, hf⟩ := sd_isC_some hf
    refine sj_cV (rest := []) (fun _ _ _ e => sj_runV (n := 0) (As := []) (rest := []) (sX5_fill l G a0 h _ _ _ e) he41 rfl rfl rfl rfl q2846 q2848 qs41 q127 q2849 (by decide +kernel) rfl rfl ⟨Nat.le_of_ble_eq_true rfl, Nat.le_of_ble_eq_true rfl⟩ rfl (Nat.le_of_ble_eq_true rfl) dX5_teach_41) hf (fun h c hf => ?_)
    refine sj_iconst (v := 0) dX5_teach_44 (by decide) ?_
    exact sj_iret (o := sd_oI) hf rfl rfl rfl dX5_teach_45
  · refine sj_iload_n 0 dX5_teach_33 rfl ?_
    exact sj_iret (o := sd_oI) hf rfl rfl rfl dX5_teach_34
