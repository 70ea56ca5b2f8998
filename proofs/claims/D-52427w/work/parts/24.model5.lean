set_option maxRecDepth 100000
theorem q357 : (Jvm.Cond.static ({ cls := "java/lang/Math", name := "max", desc := "(II)I" } : Jvm.MethodName)) ∈ lw_all := lw_g (lw_at lw_m2 2 rfl) rfl
theorem q3265 : (Jvm.Cond.code ({ cls := "SofaDigModel", name := "buriedUnder", desc := "(I)I" } : Jvm.MethodName) prog_46_method_111_code (2 : Nat) (Option.some Jvm.ClassFile.FieldType.int)) ∈ lw_all := lw_g (lw_at lw_m14 30 rfl) rfl
theorem q3266 : (Jvm.Cond.methodLink "SofaDigModel" (417 : Nat) ({ cls := "SofaDigModel", name := "buried", desc := "(I)I" } : Jvm.MethodName)) ∈ lw_all := lw_g (lw_at lw_m14 31 rfl) rfl
theorem q3268 : (Jvm.Cond.instanceMethod ({ cls := "SofaDigModel", name := "buried", desc := "(I)I" } : Jvm.MethodName)) ∈ lw_all := lw_g (lw_at lw_m14 33 rfl) rfl
theorem q3273 : (Jvm.Cond.code ({ cls := "SofaDigModel", name := "notBefore", desc := "(I)I" } : Jvm.MethodName) prog_46_method_112_code (2 : Nat) (Option.some Jvm.ClassFile.FieldType.int)) ∈ lw_all := lw_g (lw_at lw_m14 38 rfl) rfl
theorem q3274 : (Jvm.Cond.methodLink "SofaDigModel" (420 : Nat) ({ cls := "SofaDigModel", name := "isStratum", desc := "(I)Z" } : Jvm.MethodName)) ∈ lw_all := lw_g (lw_at lw_m14 39 rfl) rfl
theorem q3276 : (Jvm.Cond.instanceMethod ({ cls := "SofaDigModel", name := "isStratum", desc := "(I)Z" } : Jvm.MethodName)) ∈ lw_all := lw_g (lw_at lw_m14 41 rfl) rfl
theorem q3277 : (Jvm.Cond.code ({ cls := "SofaDigModel", name := "isStratum", desc := "(I)Z" } : Jvm.MethodName) prog_46_method_11_code (2 : Nat) (Option.some Jvm.ClassFile.FieldType.boolean)) ∈ lw_all := lw_g (lw_at lw_m14 42 rfl) rfl
theorem q3278 : (Jvm.Cond.methodLink "SofaDigModel" (423 : Nat) ({ cls := "SofaDigModel", name := "notBeforeNow", desc := "(I)I" } : Jvm.MethodName)) ∈ lw_all := lw_g (lw_at lw_m14 43 rfl) rfl
theorem q3280 : (Jvm.Cond.instanceMethod ({ cls := "SofaDigModel", name := "notBeforeNow", desc := "(I)I" } : Jvm.MethodName)) ∈ lw_all := lw_g (lw_at lw_m14 45 rfl) rfl
theorem q3281 : (Jvm.Cond.code ({ cls := "SofaDigModel", name := "notBeforeNow", desc := "(I)I" } : Jvm.MethodName) prog_46_method_26_code (4 : Nat) (Option.some Jvm.ClassFile.FieldType.int)) ∈ lw_all := lw_g (lw_at lw_m14 46 rfl) rfl
theorem q3282 : (Jvm.Cond.methodLink "SofaDigModel" (128 : Nat) ({ cls := "java/lang/Math", name := "max", desc := "(II)I" } : Jvm.MethodName)) ∈ lw_all := lw_g (lw_at lw_m14 47 rfl) rfl
theorem q3286 : (Jvm.Cond.code ({ cls := "SofaDigModel", name := "isSeenIn", desc := "(II)Z" } : Jvm.MethodName) prog_46_method_113_code (3 : Nat) (Option.some Jvm.ClassFile.FieldType.boolean)) ∈ lw_all := lw_g (lw_at lw_m14 51 rfl) rfl
theorem q3287 : (Jvm.Cond.methodLink "SofaDigModel" (134 : Nat) ({ cls := "SofaDigModel", name := "seenIn", desc := "(II)Z" } : Jvm.MethodName)) ∈ lw_all := lw_g (lw_at lw_m14 52 rfl) rfl
theorem q3289 : (Jvm.Cond.instanceMethod ({ cls := "SofaDigModel", name := "seenIn", desc := "(II)Z" } : Jvm.MethodName)) ∈ lw_all := lw_g (lw_at lw_m14 54 rfl) rfl
theorem q3290 : (Jvm.Cond.code ({ cls := "SofaDigModel", name := "seenIn", desc := "(II)Z" } : Jvm.MethodName) prog_46_method_27_code (4 : Nat) (Option.some Jvm.ClassFile.FieldType.boolean)) ∈ lw_all := lw_g (lw_at lw_m14 55 rfl) rfl
theorem q3294 : (Jvm.Cond.code ({ cls := "SofaDigModel", name := "isMixed", desc := "(I)Z" } : Jvm.MethodName) prog_46_method_114_code (2 : Nat) (Option.some Jvm.ClassFile.FieldType.boolean)) ∈ lw_all := lw_g (lw_at lw_m14 59 rfl) rfl
theorem q3295 : (Jvm.Cond.methodLink "SofaDigModel" (426 : Nat) ({ cls := "SofaDigModel", name := "mixed", desc := "(I)Z" } : Jvm.MethodName)) ∈ lw_all := lw_g (lw_at lw_m14 60 rfl) rfl
theorem q3297 : (Jvm.Cond.instanceMethod ({ cls := "SofaDigModel", name := "mixed", desc := "(I)Z" } : Jvm.MethodName)) ∈ lw_all := lw_g (lw_at lw_m14 62 rfl) rfl
theorem q3298 : (Jvm.Cond.code ({ cls := "SofaDigModel", name := "mixed", desc := "(I)Z" } : Jvm.MethodName) prog_46_method_29_code (4 : Nat) (Option.some Jvm.ClassFile.FieldType.boolean)) ∈ lw_all := lw_g (lw_at lw_m14 63 rfl) rfl
theorem q3302 : (Jvm.Cond.code ({ cls := "SofaDigModel", name := "dig", desc := "(I)I" } : Jvm.MethodName) prog_46_method_115_code (2 : Nat) (Option.some Jvm.ClassFile.FieldType.int)) ∈ lw_all := lw_g (lw_at lw_m14 67 rfl) rfl
theorem q3303 : (Jvm.Cond.methodLink "SofaDigModel" (157 : Nat) ({ cls := "SofaDigModel", name := "digs", desc := "(I)I" } : Jvm.MethodName)) ∈ lw_all := lw_g (lw_at lw_m14 68 rfl) rfl
theorem q3305 : (Jvm.Cond.instanceMethod ({ cls := "SofaDigModel", name := "digs", desc := "(I)I" } : Jvm.MethodName)) ∈ lw_all := lw_g (lw_at lw_m14 70 rfl) rfl
theorem q3306 : (Jvm.Cond.code ({ cls := "SofaDigModel", name := "digs", desc := "(I)I" } : Jvm.MethodName) prog_46_method_20_code (4 : Nat) (Option.some Jvm.ClassFile.FieldType.int)) ∈ lw_all := lw_g (lw_at lw_m14 71 rfl) rfl
theorem q3307 : (Jvm.Cond.methodLink "SofaDigModel" (103 : Nat) ({ cls := "SofaDigModel", name := "settle", desc := "()I" } : Jvm.MethodName)) ∈ lw_all := lw_g (lw_at lw_m14 72 rfl) rfl
theorem q3309 : (Jvm.Cond.instanceMethod ({ cls := "SofaDigModel", name := "settle", desc := "()I" } : Jvm.MethodName)) ∈ lw_all := lw_g (lw_at lw_m14 74 rfl) rfl
theorem q3310 : (Jvm.Cond.code ({ cls := "SofaDigModel", name := "settle", desc := "()I" } : Jvm.MethodName) prog_46_method_19_code (5 : Nat) (Option.some Jvm.ClassFile.FieldType.int)) ∈ lw_all := lw_g (lw_at lw_m14 75 rfl) rfl
theorem q3311 : (Jvm.Cond.methodLink "SofaDigModel" (96 : Nat) ({ cls := "SofaDigModel", name := "next", desc := "()I" } : Jvm.MethodName)) ∈ lw_all := lw_g (lw_at lw_m14 76 rfl) rfl
theorem q3313 : (Jvm.Cond.instanceMethod ({ cls := "SofaDigModel", name := "next", desc := "()I" } : Jvm.MethodName)) ∈ lw_all := lw_g (lw_at lw_m14 78 rfl) rfl
theorem q3314 : (Jvm.Cond.code ({ cls := "SofaDigModel", name := "next", desc := "()I" } : Jvm.MethodName) prog_46_method_18_code (2 : Nat) (Option.some Jvm.ClassFile.FieldType.int)) ∈ lw_all := lw_g (lw_at lw_m14 79 rfl) rfl
theorem q3315 : (Jvm.Cond.methodLink "SofaDigModel" (92 : Nat) ({ cls := "SofaDigModel", name := "canSlide", desc := "(II)Z" } : Jvm.MethodName)) ∈ lw_all := lw_g (lw_at lw_m14 80 rfl) rfl
theorem q3317 : (Jvm.Cond.instanceMethod ({ cls := "SofaDigModel", name := "canSlide", desc := "(II)Z" } : Jvm.MethodName)) ∈ lw_all := lw_g (lw_at lw_m14 82 rfl) rfl
theorem q3318 : (Jvm.Cond.code ({ cls := "SofaDigModel", name := "canSlide", desc := "(II)Z" } : Jvm.MethodName) prog_46_method_17_code (3 : Nat) (Option.some Jvm.ClassFile.FieldType.boolean)) ∈ lw_all := lw_g (lw_at lw_m14 83 rfl) rfl
theorem q3322 : (Jvm.Cond.code ({ cls := "SofaDigModel", name := "prop", desc := "(I)I" } : Jvm.MethodName) prog_46_method_116_code (2 : Nat) (Option.some Jvm.ClassFile.FieldType.int)) ∈ lw_all := lw_g (lw_at lw_m14 87 rfl) rfl
theorem q3323 : (Jvm.Cond.methodLink "SofaDigModel" (160 : Nat) ({ cls := "SofaDigModel", name := "isPropped3", desc := "()Z" } : Jvm.MethodName)) ∈ lw_all := lw_g (lw_at lw_m14 88 rfl) rfl
theorem q3325 : (Jvm.Cond.instanceMethod ({ cls := "SofaDigModel", name := "isPropped3", desc := "()Z" } : Jvm.MethodName)) ∈ lw_all := lw_g (lw_at lw_m14 90 rfl) rfl
theorem q3326 : (Jvm.Cond.code ({ cls := "SofaDigModel", name := "isPropped3", desc := "()Z" } : Jvm.MethodName) prog_46_method_30_code (1 : Nat) (Option.some Jvm.ClassFile.FieldType.boolean)) ∈ lw_all := lw_g (lw_at lw_m14 91 rfl) rfl
theorem q3330 : (Jvm.Cond.code ({ cls := "SofaDigModel", name := "takeProp", desc := "(I)I" } : Jvm.MethodName) prog_46_method_117_code (2 : Nat) (Option.some Jvm.ClassFile.FieldType.int)) ∈ lw_all := lw_g (lw_at lw_m14 95 rfl) rfl
theorem q3334 : (Jvm.Cond.code ({ cls := "SofaDigModel", name := "passDays", desc := "(I)I" } : Jvm.MethodName) prog_46_method_118_code (2 : Nat) (Option.some Jvm.ClassFile.FieldType.int)) ∈ lw_all := lw_g (lw_at lw_m14 99 rfl) rfl
theorem q3335 : (Jvm.Cond.methodLink "SofaDigModel" (429 : Nat) ({ cls := "SofaDigModel", name := "go", desc := "(I)I" } : Jvm.MethodName)) ∈ lw_all := lw_g (lw_at lw_m14 100 rfl) rfl
theorem q3337 : (Jvm.Cond.instanceMethod ({ cls := "SofaDigModel", name := "go", desc := "(I)I" } : Jvm.MethodName)) ∈ lw_all := lw_g (lw_at lw_m14 102 rfl) rfl
theorem q3338 : (Jvm.Cond.code ({ cls := "SofaDigModel", name := "go", desc := "(I)I" } : Jvm.MethodName) prog_46_method_32_code (5 : Nat) (Option.some Jvm.ClassFile.FieldType.int)) ∈ lw_all := lw_g (lw_at lw_m14 103 rfl) rfl
theorem q3339 : (Jvm.Cond.methodLink "SofaDigModel" (170 : Nat) ({ cls := "SofaDigModel", name := "isCarriedOut", desc := "(I)Z" } : Jvm.MethodName)) ∈ lw_all := lw_g (lw_at lw_m14 104 rfl) rfl
theorem q3341 : (Jvm.Cond.instanceMethod ({ cls := "SofaDigModel", name := "isCarriedOut", desc := "(I)Z" } : Jvm.MethodName)) ∈ lw_all := lw_g (lw_at lw_m14 106 rfl) rfl
theorem q3342 : (Jvm.Cond.code ({ cls := "SofaDigModel", name := "isCarriedOut", desc := "(I)Z" } : Jvm.MethodName) prog_46_method_31_code (3 : Nat) (Option.some Jvm.ClassFile.FieldType.boolean)) ∈ lw_all := lw_g (lw_at lw_m14 107 rfl) rfl
theorem q3343 : (Jvm.Cond.methodLink "SofaDigModel" (148 : Nat) ({ cls := "SofaDigModel", name := "reckonPart", desc := "(I)I" } : Jvm.MethodName)) ∈ lw_all := lw_g (lw_at lw_m14 108 rfl) rfl
theorem q3345 : (Jvm.Cond.instanceMethod ({ cls := "SofaDigModel", name := "reckonPart", desc := "(I)I" } : Jvm.MethodName)) ∈ lw_all := lw_g (lw_at lw_m14 110 rfl) rfl
theorem q3346 : (Jvm.Cond.code ({ cls := "SofaDigModel", name := "reckonPart", desc := "(I)I" } : Jvm.MethodName) prog_46_method_38_code (5 : Nat) (Option.some Jvm.ClassFile.FieldType.int)) ∈ lw_all := lw_g (lw_at lw_m14 111 rfl) rfl
theorem q3347 : (Jvm.Cond.methodLink "SofaDigModel" (191 : Nat) ({ cls := "SofaDigModel", name := "isAsked", desc := "(I)Z" } : Jvm.MethodName)) ∈ lw_all := lw_g (lw_at lw_m14 112 rfl) rfl
theorem q3348 : (Jvm.Cond.static ({ cls := "SofaDigModel", name := "isAsked", desc := "(I)Z" } : Jvm.MethodName)) ∈ lw_all := lw_g (lw_at lw_m14 113 rfl) rfl
theorem q3349 : (Jvm.Cond.code ({ cls := "SofaDigModel", name := "isAsked", desc := "(I)Z" } : Jvm.MethodName) prog_46_method_34_code (1 : Nat) (Option.some Jvm.ClassFile.FieldType.boolean)) ∈ lw_all := lw_g (lw_at lw_m14 114 rfl) rfl
theorem q3350 : (Jvm.Cond.methodLink "SofaDigModel" (197 : Nat) ({ cls := "SofaDigModel", name := "ask", desc := "(II)I" } : Jvm.MethodName)) ∈ lw_all := lw_g (lw_at lw_m14 115 rfl) rfl
theorem q3352 : (Jvm.Cond.instanceMethod ({ cls := "SofaDigModel", name := "ask", desc := "(II)I" } : Jvm.MethodName)) ∈ lw_all := lw_g (lw_at lw_m14 117 rfl) rfl
theorem q3353 : (Jvm.Cond.code ({ cls := "SofaDigModel", name := "ask", desc := "(II)I" } : Jvm.MethodName) prog_46_method_33_code (3 : Nat) (Option.some Jvm.ClassFile.FieldType.int)) ∈ lw_all := lw_g (lw_at lw_m14 118 rfl) rfl
theorem q3354 : (Jvm.Cond.methodLink "SofaDigModel" (173 : Nat) ({ cls := "SofaDigModel", name := "seen", desc := "(I)Z" } : Jvm.MethodName)) ∈ lw_all := lw_g (lw_at lw_m14 119 rfl) rfl
theorem q3356 : (Jvm.Cond.instanceMethod ({ cls := "SofaDigModel", name := "seen", desc := "(I)Z" } : Jvm.MethodName)) ∈ lw_all := lw_g (lw_at lw_m14 121 rfl) rfl
theorem q3357 : (Jvm.Cond.code ({ cls := "SofaDigModel", name := "seen", desc := "(I)Z" } : Jvm.MethodName) prog_46_method_28_code (3 : Nat) (Option.some Jvm.ClassFile.FieldType.boolean)) ∈ lw_all := lw_g (lw_at lw_m14 122 rfl) rfl
theorem q3358 : (Jvm.Cond.methodLink "SofaDigModel" (200 : Nat) ({ cls := "SofaDigModel", name := "isOfOneNow", desc := "(I)Z" } : Jvm.MethodName)) ∈ lw_all := lw_g (lw_at lw_m14 123 rfl) rfl
theorem q3359 : (Jvm.Cond.static ({ cls := "SofaDigModel", name := "isOfOneNow", desc := "(I)Z" } : Jvm.MethodName)) ∈ lw_all := lw_g (lw_at lw_m14 124 rfl) rfl
theorem q3360 : (Jvm.Cond.code ({ cls := "SofaDigModel", name := "isOfOneNow", desc := "(I)Z" } : Jvm.MethodName) prog_46_method_36_code (1 : Nat) (Option.some Jvm.ClassFile.FieldType.boolean)) ∈ lw_all := lw_g (lw_at lw_m14 125 rfl) rfl
theorem q3361 : (Jvm.Cond.methodLink "SofaDigModel" (203 : Nat) ({ cls := "SofaDigModel", name := "turned", desc := "(II)I" } : Jvm.MethodName)) ∈ lw_all := lw_g (lw_at lw_m14 126 rfl) rfl
theorem q3363 : (Jvm.Cond.instanceMethod ({ cls := "SofaDigModel", name := "turned", desc := "(II)I" } : Jvm.MethodName)) ∈ lw_all := lw_g (lw_at lw_m14 128 rfl) rfl
theorem q3364 : (Jvm.Cond.code ({ cls := "SofaDigModel", name := "turned", desc := "(II)I" } : Jvm.MethodName) prog_46_method_35_code (3 : Nat) (Option.some Jvm.ClassFile.FieldType.int)) ∈ lw_all := lw_g (lw_at lw_m14 129 rfl) rfl
theorem q3365 : (Jvm.Cond.methodLink "SofaDigModel" (151 : Nat) ({ cls := "java/lang/Math", name := "floorMod", desc := "(II)I" } : Jvm.MethodName)) ∈ lw_all := lw_g (lw_at lw_m14 130 rfl) rfl
theorem q3366 : (Jvm.Cond.static ({ cls := "java/lang/Math", name := "floorMod", desc := "(II)I" } : Jvm.MethodName)) ∈ lw_all := lw_g (lw_at lw_m14 131 rfl) rfl
theorem q3368 : (Jvm.Cond.methodLink "SofaDigModel" (206 : Nat) ({ cls := "SofaDigModel", name := "reckon", desc := "(III)I" } : Jvm.MethodName)) ∈ lw_all := lw_g (lw_at lw_m14 133 rfl) rfl
theorem q3369 : (Jvm.Cond.static ({ cls := "SofaDigModel", name := "reckon", desc := "(III)I" } : Jvm.MethodName)) ∈ lw_all := lw_g (lw_at lw_m14 134 rfl) rfl
theorem q3370 : (Jvm.Cond.code ({ cls := "SofaDigModel", name := "reckon", desc := "(III)I" } : Jvm.MethodName) prog_46_method_37_code (3 : Nat) (Option.some Jvm.ClassFile.FieldType.int)) ∈ lw_all := lw_g (lw_at lw_m14 135 rfl) rfl
theorem q3374 : (Jvm.Cond.code ({ cls := "SofaDigModel", name := "foundAfter", desc := "(I)I" } : Jvm.MethodName) prog_46_method_119_code (3 : Nat) (Option.some Jvm.ClassFile.FieldType.int)) ∈ lw_all := lw_g (lw_at lw_m14 139 rfl) rfl
theorem q3375 : (Jvm.Cond.methodLink "SofaDigModel" (432 : Nat) ({ cls := "SofaDigModel", name := "keep", desc := "()V" } : Jvm.MethodName)) ∈ lw_all := lw_g (lw_at lw_m14 140 rfl) rfl
theorem q3377 : (Jvm.Cond.instanceMethod ({ cls := "SofaDigModel", name := "keep", desc := "()V" } : Jvm.MethodName)) ∈ lw_all := lw_g (lw_at lw_m14 142 rfl) rfl
theorem q3378 : (Jvm.Cond.code ({ cls := "SofaDigModel", name := "keep", desc := "()V" } : Jvm.MethodName) prog_46_method_12_code (1 : Nat) (Option.none : Option Jvm.ClassFile.FieldType)) ∈ lw_all := lw_g (lw_at lw_m14 143 rfl) rfl
theorem q3379 : (Jvm.Cond.methodLink "SofaDigModel" (68 : Nat) ({ cls := "java/lang/System", name := "arraycopy", desc := "(Ljava/lang/Object;ILjava/lang/Object;II)V" } : Jvm.MethodName)) ∈ lw_all := lw_g (lw_at lw_m14 144 rfl) rfl
theorem q3380 : (Jvm.Cond.methodLink "SofaDigModel" (435 : Nat) ({ cls := "SofaDigModel", name := "bringBack", desc := "()V" } : Jvm.MethodName)) ∈ lw_all := lw_g (lw_at lw_m14 145 rfl) rfl
theorem q3382 : (Jvm.Cond.instanceMethod ({ cls := "SofaDigModel", name := "bringBack", desc := "()V" } : Jvm.MethodName)) ∈ lw_all := lw_g (lw_at lw_m14 147 rfl) rfl
theorem q3383 : (Jvm.Cond.code ({ cls := "SofaDigModel", name := "bringBack", desc := "()V" } : Jvm.MethodName) prog_46_method_13_code (1 : Nat) (Option.none : Option Jvm.ClassFile.FieldType)) ∈ lw_all := lw_g (lw_at lw_m14 148 rfl) rfl
theorem q3387 : (Jvm.Cond.code ({ cls := "SofaDigModel", name := "daysUntilFound", desc := "(I)I" } : Jvm.MethodName) prog_46_method_120_code (3 : Nat) (Option.some Jvm.ClassFile.FieldType.int)) ∈ lw_all := lw_g (lw_at lw_m14 152 rfl) rfl
theorem q3391 : (Jvm.Cond.code ({ cls := "SofaDigModel", name := "wouldSlide", desc := "(I)I" } : Jvm.MethodName) prog_46_method_122_code (2 : Nat) (Option.some Jvm.ClassFile.FieldType.int)) ∈ lw_all := lw_g (lw_at lw_m14 156 rfl) rfl
theorem q3392 : (Jvm.Cond.methodLink "SofaDigModel" (438 : Nat) ({ cls := "SofaDigModel", name := "slideBy", desc := "(I)I" } : Jvm.MethodName)) ∈ lw_all := lw_g (lw_at lw_m14 157 rfl) rfl
theorem q3394 : (Jvm.Cond.instanceMethod ({ cls := "SofaDigModel", name := "slideBy", desc := "(I)I" } : Jvm.MethodName)) ∈ lw_all := lw_g (lw_at lw_m14 159 rfl) rfl
theorem q3395 : (Jvm.Cond.code ({ cls := "SofaDigModel", name := "slideBy", desc := "(I)I" } : Jvm.MethodName) prog_46_method_121_code (4 : Nat) (Option.some Jvm.ClassFile.FieldType.int)) ∈ lw_all := lw_g (lw_at lw_m14 160 rfl) rfl
theorem q3399 : (Jvm.Cond.code ({ cls := "SofaDigModel", name := "bestDig", desc := "()I" } : Jvm.MethodName) prog_46_method_124_code (1 : Nat) (Option.some Jvm.ClassFile.FieldType.int)) ∈ lw_all := lw_g (lw_at lw_m14 164 rfl) rfl
theorem q3400 : (Jvm.Cond.methodLink "SofaDigModel" (441 : Nat) ({ cls := "SofaDigModel", name := "best", desc := "()I" } : Jvm.MethodName)) ∈ lw_all := lw_g (lw_at lw_m14 165 rfl) rfl
theorem q3402 : (Jvm.Cond.instanceMethod ({ cls := "SofaDigModel", name := "best", desc := "()I" } : Jvm.MethodName)) ∈ lw_all := lw_g (lw_at lw_m14 167 rfl) rfl
theorem q3403 : (Jvm.Cond.code ({ cls := "SofaDigModel", name := "best", desc := "()I" } : Jvm.MethodName) prog_46_method_123_code (5 : Nat) (Option.some Jvm.ClassFile.FieldType.int)) ∈ lw_all := lw_g (lw_at lw_m14 168 rfl) rfl
theorem q3407 : (Jvm.Cond.code ({ cls := "SofaDigModel", name := "meanYear", desc := "()D" } : Jvm.MethodName) prog_46_method_125_code (4 : Nat) (Option.some Jvm.ClassFile.FieldType.double)) ∈ lw_all := lw_g (lw_at lw_m14 172 rfl) rfl
theorem q3411 : (Jvm.Cond.code ({ cls := "SofaDigModel", name := "digest", desc := "()J" } : Jvm.MethodName) prog_46_method_126_code (8 : Nat) (Option.some Jvm.ClassFile.FieldType.long)) ∈ lw_all := lw_g (lw_at lw_m14 176 rfl) rfl
theorem q3412 : (Jvm.Cond.constantLong "SofaDigModel" (444 : Nat) (1021 : Int64)) ∈ lw_all := lw_g (lw_at lw_m14 177 rfl) rfl
theorem q3413 : (Jvm.Cond.constantLong "SofaDigModel" (446 : Nat) (31 : Int64)) ∈ lw_all := lw_g (lw_at lw_m14 178 rfl) rfl
/-! SofaDigModel.buriedUnder(I)I -/
abbrev cX5_buriedUnder : ByteArray := prog_46_method_111_code
def yX5_buriedUnder : MethodName := ⟨RX5, "buriedUnder", "(I)I"⟩
def dkwX5_buriedUnder_1 : List UInt8 := [17, 0, 173, 27, 96, 46, 158, 0, 11, 42, 5, 182, 1, 139, 167, 0, 8, 42, 27, 182, 1, 161, 172]
abbrev dktX5_buriedUnder_1 : List UInt8 := dkwX5_buriedUnder_1 ++ []
def dkwX5_buriedUnder_0 : List UInt8 := [42, 3, 181, 0, 58, 42, 27, 182, 0, 176, 154, 0, 9, 42, 4, 182, 1, 139, 172, 42, 180, 0, 40]
abbrev dktX5_buriedUnder_0 : List UInt8 := dkwX5_buriedUnder_0 ++ dktX5_buriedUnder_1
theorem dksX5_buriedUnder_0 : cX5_buriedUnder.data.toList.drop 0 = dktX5_buriedUnder_0 := by decide +kernel
theorem dksX5_buriedUnder_1 : cX5_buriedUnder.data.toList.drop 23 = dktX5_buriedUnder_1 := dk_seg dksX5_buriedUnder_0 23 rfl rfl
theorem dX5_buriedUnder_0 : decode cX5_buriedUnder 0 = .ok (.aload_n 0, 1) := dk_42 (dk_at dksX5_buriedUnder_0 0 rfl rfl)
theorem dX5_buriedUnder_1 : decode cX5_buriedUnder 1 = .ok (.iconst 0, 1) := dk_3 (dk_at dksX5_buriedUnder_0 1 rfl rfl)
theorem dX5_buriedUnder_2 : decode cX5_buriedUnder 2 = .ok (.putfield 58, 3) := dk_181 0 58 (dk_at dksX5_buriedUnder_0 2 rfl rfl)
theorem dX5_buriedUnder_5 : decode cX5_buriedUnder 5 = .ok (.aload_n 0, 1) := dk_42 (dk_at dksX5_buriedUnder_0 5 rfl rfl)
theorem dX5_buriedUnder_6 : decode cX5_buriedUnder 6 = .ok (.iload_n 1, 1) := dk_27 (dk_at dksX5_buriedUnder_0 6 rfl rfl)
theorem dX5_buriedUnder_7 : decode cX5_buriedUnder 7 = .ok (.invokevirtual 176, 3) := dk_182 0 176 (dk_at dksX5_buriedUnder_0 7 rfl rfl)
theorem dX5_buriedUnder_10 : decode cX5_buriedUnder 10 = .ok (.ifCond .ne 9, 3) := dk_154 0 9 (dk_at dksX5_buriedUnder_0 10 rfl rfl)
theorem dX5_buriedUnder_13 : decode cX5_buriedUnder 13 = .ok (.aload_n 0, 1) := dk_42 (dk_at dksX5_buriedUnder_0 13 rfl rfl)
theorem dX5_buriedUnder_14 : decode cX5_buriedUnder 14 = .ok (.iconst 1, 1) := dk_4 (dk_at dksX5_buriedUnder_0 14 rfl rfl)
theorem dX5_buriedUnder_15 : decode cX5_buriedUnder 15 = .ok (.invokevirtual 395, 3) := dk_182 1 139 (dk_at dksX5_buriedUnder_0 15 rfl rfl)
theorem dX5_buriedUnder_18 : decode cX5_buriedUnder 18 = .ok (.ireturn, 1) := dk_172 (dk_at dksX5_buriedUnder_0 18 rfl rfl)
theorem dX5_buriedUnder_19 : decode cX5_buriedUnder 19 = .ok (.aload_n 0, 1) := dk_42 (dk_at dksX5_buriedUnder_0 19 rfl rfl)
theorem dX5_buriedUnder_20 : decode cX5_buriedUnder 20 = .ok (.getfield 40, 3) := dk_180 0 40 (dk_at dksX5_buriedUnder_0 20 rfl rfl)
theorem dX5_buriedUnder_23 : decode cX5_buriedUnder 23 = .ok (.sipush 173, 3) := dk_17 0 173 (dk_at dksX5_buriedUnder_1 0 rfl rfl)
theorem dX5_buriedUnder_26 : decode cX5_buriedUnder 26 = .ok (.iload_n 1, 1) := dk_27 (dk_at dksX5_buriedUnder_1 3 rfl rfl)
theorem dX5_buriedUnder_27 : decode cX5_buriedUnder 27 = .ok (.iadd, 1) := dk_96 (dk_at dksX5_buriedUnder_1 4 rfl rfl)
theorem dX5_buriedUnder_28 : decode cX5_buriedUnder 28 = .ok (.iaload, 1) := dk_46 (dk_at dksX5_buriedUnder_1 5 rfl rfl)
theorem dX5_buriedUnder_29 : decode cX5_buriedUnder 29 = .ok (.ifCond .le 11, 3) := dk_158 0 11 (dk_at dksX5_buriedUnder_1 6 rfl rfl)
theorem dX5_buriedUnder_32 : decode cX5_buriedUnder 32 = .ok (.aload_n 0, 1) := dk_42 (dk_at dksX5_buriedUnder_1 9 rfl rfl)
theorem dX5_buriedUnder_33 : decode cX5_buriedUnder 33 = .ok (.iconst 2, 1) := dk_5 (dk_at dksX5_buriedUnder_1 10 rfl rfl)
theorem dX5_buriedUnder_34 : decode cX5_buriedUnder 34 = .ok (.invokevirtual 395, 3) := dk_182 1 139 (dk_at dksX5_buriedUnder_1 11 rfl rfl)
theorem dX5_buriedUnder_37 : decode cX5_buriedUnder 37 = .ok (.goto 8, 3) := dk_167 0 8 (dk_at dksX5_buriedUnder_1 14 rfl rfl)
theorem dX5_buriedUnder_40 : decode cX5_buriedUnder 40 = .ok (.aload_n 0, 1) := dk_42 (dk_at dksX5_buriedUnder_1 17 rfl rfl)
theorem dX5_buriedUnder_41 : decode cX5_buriedUnder 41 = .ok (.iload_n 1, 1) := dk_27 (dk_at dksX5_buriedUnder_1 18 rfl rfl)
theorem dX5_buriedUnder_42 : decode cX5_buriedUnder 42 = .ok (.invokevirtual 417, 3) := dk_182 1 161 (dk_at dksX5_buriedUnder_1 19 rfl rfl)
theorem dX5_buriedUnder_45 : decode cX5_buriedUnder 45 = .ok (.ireturn, 1) := dk_172 (dk_at dksX5_buriedUnder_1 22 rfl rfl)
abbrev mX5_buriedUnder : sd_Y := (yX5_buriedUnder, cX5_buriedUnder, 2, some (.int), none)
def fX5_buriedUnder (G : sd_G) (a0 : Nat) (a1 : Int32) : sd_M Int32 :=
  sd_bnd (sd_put 4 0 .int a0 (.int 0)) fun _ =>
  sd_bnd (sd_isC G 4 a0) fun _ =>
  sd_bnd (fX5_isFind G a0 a1) fun r1 =>
  if r1 = 0 then (
    sd_bnd (sd_isC G 4 a0) fun _ =>
    sd_bnd (fX5_no G a0 1) fun r6 =>
    sd_ret r6)
  else (
    sd_bnd (sd_getR G 4 15 a0) fun v2 =>
    sd_bnd (sd_aldI G 0 v2 ((173 : Int32) + a1)) fun v3 =>
    if v3 ≤ 0 then (
      sd_bnd (sd_isC G 4 a0) fun _ =>
      sd_bnd (fX5_buried G a0 a1) fun r4 =>
      sd_ret r4)
    else (
      sd_bnd (sd_isC G 4 a0) fun _ =>
      sd_bnd (fX5_no G a0 2) fun r5 =>
      sd_ret r5))
set_option maxHeartbeats 4000000 in
theorem sX5_buriedUnder (l : Launch) (G : sd_G) (a0 : Nat) (a1 : Int32) (h : sd_H) (ρ : Int32) (cT : Nat × Nat) (h2 : sd_H) (hf : fX5_buriedUnder G a0 a1 h = some (ρ, cT, h2)) : sd_Met mX5_buriedUnder ((l, G), (2, 44), [.ref a0, .int a1], (sd_oI ρ, h2), cT) h := by
  refine sd_entry (plainFor_of_name rfl) rfl (Nat.le_of_ble_eq_true rfl) ?_
  show sd_J mX5_buriedUnder ((l, G), (2, 44), [.ref a0, .int a1], (sd_oI ρ, h2), cT) 0 [(0, .ref a0), (1, .int a1)] [] h cT
  unfold fX5_buriedUnder at hf
  refine sj_aload_n 0 dX5_buriedUnder_0 rfl ?_
  refine sj_iconst (v := 0) dX5_buriedUnder_1 (by decide) ?_
  refine sj_put (fpX5_58_4 _ _) hf dX5_buriedUnder_2 (fun h hf => ?_)
  refine sj_aload_n 0 dX5_buriedUnder_5 rfl ?_
  refine sj_iload_n 1 dX5_buriedUnder_6 rfl ?_
  obtain ⟨fs7, he7, hf⟩ := sd_isC_some hf
  refine sj_cI (rest := []) (fun _ _ _ e => sj_runV (n := 1) (As := [.int a1]) (rest := []) (sX5_isFind l G a0 a1 h _ _ _ e) he7 rfl rfl rfl rfl q3226 q3228 qs91 q127 q3229 (by decide +kernel) rfl rfl ⟨Nat.le_of_ble_eq_true rfl, Nat.le_of_ble_eq_true rfl⟩ rfl (Nat.le_of_ble_eq_true rfl) dX5_buriedUnder_7) hf (fun r1 h c hf => ?_)
  refine sj_ifne 19 hf dX5_buriedUnder_10 (by decide) (fun g10 hf => ?_) (fun g10 hf => ?_)
  · refine sj_aload_n 0 dX5_buriedUnder_19 rfl ?_
    refine sj_getR fdX5_40_4 hf dX5_buriedUnder_20 (fun v2 hf => ?_)
    refine sj_sipush (v := 173) dX5_buriedUnder_23 (by decide) ?_
    refine sj_iload_n 1 dX5_buriedUnder_26 rfl ?_
    refine sj_iadd dX5_buriedUnder_27 ?_
    refine sj_iald hf dX5_buriedUnder_28 (fun v3 hf => ?_)
    refine sj_ifle 40 hf dX5_buriedUnder_29 (by decide) (fun g29 hf => ?_) (fun g29 hf => ?_)
    · refine sj_aload_n 0 dX5_buriedUnder_40 rfl ?_
      refine sj_iload_n 1 dX5_buriedUnder_41 rfl ?_
      obtain ⟨fs42, he42, hf⟩ := sd_isC_some hf
      refine sj_cI (rest := []) (fun _ _ _ e => sj_runV (n := 1) (As := [.int a1]) (rest := []) (sX5_buried l G a0 a1 h _ _ _ e) he42 rfl rfl rfl rfl q3266 q3268 qs95 q127 q3269 (by decide +kernel) rfl rfl ⟨Nat.le_of_ble_eq_true rfl, Nat.le_of_ble_eq_true rfl⟩ rfl (Nat.le_of_ble_eq_true rfl) dX5_buriedUnder_42) hf (fun r4 h c hf => ?_)
      exact sj_iret (o := sd_oI) hf rfl rfl rfl dX5_buriedUnder_45
    · refine sj_aload_n 0 dX5_buriedUnder_32 rfl ?_
      refine sj_iconst (v := 2) dX5_buriedUnder_33 (by decide) ?_
      obtain ⟨fs34, he34, hf⟩ := sd_isC_some hf
      refine sj_cI (rest := []) (fun _ _ _ e => sj_runV (n := 1) (As := [.int 2]) (rest := []) (sX5_no l G a0 2 h _ _ _ e) he34 rfl rfl rfl rfl q2913 q2915 qs42 q127 q2916 (by decide +kernel) rfl rfl ⟨Nat.le_of_ble_eq_true rfl, Nat.le_of_ble_eq_true rfl⟩ rfl (Nat.le_of_ble_eq_true rfl) dX5_buriedUnder_34) hf (fun r5 h c hf => ?_)
      refine sj_goto 45 dX5_buriedUnder_37 (by decide) ?_
      exact sj_iret (o := sd_oI) hf rfl rfl rfl dX5_buriedUnder_45
  · refine sj_aload_n 0 dX5_buriedUnder_13 rfl ?_
    refine sj_iconst (v := 1) dX5_buriedUnder_14 (by decide) ?_
    obtain ⟨fs15, he15, hf⟩ := sd_isC_some hf
    refine sj_cI (rest := []) (fun _ _ _ e => sj_runV (n := 1) (As := [.int 1]) (rest := []) (sX5_no l G a0 1 h _ _ _ e) he15 rfl rfl rfl rfl q2913 q2915 qs42 q127 q2916 (by decide +kernel) rfl rfl ⟨Nat.le_of_ble_eq_true rfl, Nat.le_of_ble_eq_true rfl⟩ rfl (Nat.le_of_ble_eq_true rfl) dX5_buriedUnder_15) hf (fun r6 h c hf => ?_)
    exact sj_iret (o := sd_oI) hf rfl rfl rfl dX5_buriedUnder_18
/-! SofaDigModel.isStratum(I)Z -/
abbrev cX5_isStratum : ByteArray := prog_46_method_11_code
def yX5_isStratum : MethodName := ⟨RX5, "isStratum", "(I)Z"⟩
def dkwX5_isStratum_0 : List UInt8 := [27, 3, 42, 180, 0, 20, 180, 0, 55, 4, 100, 184, 0, 61, 172]
abbrev dktX5_isStratum_0 : List UInt8 := dkwX5_isStratum_0 ++ []
theorem dksX5_isStratum_0 : cX5_isStratum.data.toList.drop 0 = dktX5_isStratum_0 := by decide +kernel
theorem dX5_isStratum_0 : decode cX5_isStratum 0 = .ok (.iload_n 1, 1) := dk_27 (dk_at dksX5_isStratum_0 0 rfl rfl)
theorem dX5_isStratum_1 : decode cX5_isStratum 1 = .ok (.iconst 0, 1) := dk_3 (dk_at dksX5_isStratum_0 1 rfl rfl)
theorem dX5_isStratum_2 : decode cX5_isStratum 2 = .ok (.aload_n 0, 1) := dk_42 (dk_at dksX5_isStratum_0 2 rfl rfl)
theorem dX5_isStratum_3 : decode cX5_isStratum 3 = .ok (.getfield 20, 3) := dk_180 0 20 (dk_at dksX5_isStratum_0 3 rfl rfl)
theorem dX5_isStratum_6 : decode cX5_isStratum 6 = .ok (.getfield 55, 3) := dk_180 0 55 (dk_at dksX5_isStratum_0 6 rfl rfl)
theorem dX5_isStratum_9 : decode cX5_isStratum 9 = .ok (.iconst 1, 1) := dk_4 (dk_at dksX5_isStratum_0 9 rfl rfl)
theorem dX5_isStratum_10 : decode cX5_isStratum 10 = .ok (.isub, 1) := dk_100 (dk_at dksX5_isStratum_0 10 rfl rfl)
theorem dX5_isStratum_11 : decode cX5_isStratum 11 = .ok (.invokestatic 61, 3) := dk_184 0 61 (dk_at dksX5_isStratum_0 11 rfl rfl)
theorem dX5_isStratum_14 : decode cX5_isStratum 14 = .ok (.ireturn, 1) := dk_172 (dk_at dksX5_isStratum_0 14 rfl rfl)
abbrev mX5_isStratum : sd_Y := (yX5_isStratum, cX5_isStratum, 2, some (.boolean), none)
def fX5_isStratum (G : sd_G) (a0 : Nat) (a1 : Int32) : sd_M Int32 :=
  sd_bnd (sd_getR G 4 4 a0) fun v1 =>
  sd_bnd (sd_getI G 5 1 v1) fun v2 =>
  sd_bnd (fX5_isIn G a1 0 (v2 - 1)) fun r3 =>
  sd_retN .boolean r3
set_option maxHeartbeats 4000000 in
theorem sX5_isStratum (l : Launch) (G : sd_G) (a0 : Nat) (a1 : Int32) (h : sd_H) (ρ : Int32) (cT : Nat × Nat) (h2 : sd_H) (hf : fX5_isStratum G a0 a1 h = some (ρ, cT, h2)) : sd_Met mX5_isStratum ((l, G), (1, 22), [.ref a0, .int a1], (sd_oI ρ, h2), cT) h := by
  refine sd_entry (plainFor_of_name rfl) rfl (Nat.le_of_ble_eq_true rfl) ?_
  show sd_J mX5_isStratum ((l, G), (1, 22), [.ref a0, .int a1], (sd_oI ρ, h2), cT) 0 [(0, .ref a0), (1, .int a1)] [] h cT
  unfold fX5_isStratum at hf
  refine sj_iload_n 1 dX5_isStratum_0 rfl ?_
  refine sj_iconst (v := 0) dX5_isStratum_1 (by decide) ?_
  refine sj_aload_n 0 dX5_isStratum_2 rfl ?_
  refine sj_getR fdX5_20_4 hf dX5_isStratum_3 (fun v1 hf => ?_)
  refine sj_getI fdX5_55_5 hf dX5_isStratum_6 (fun v2 hf => ?_)
  refine sj_iconst (v := 1) dX5_isStratum_9 (by decide) ?_
  refine sj_isub dX5_isStratum_10 ?_
  refine sj_cI (rest := []) (fun _ _ _ e => sj_runS (n := 3) (rest := []) (sX5_isIn l G a1 0 (v2 - 1) h _ _ _ e) rfl rfl q2921 q2922 q127 q2923 (by decide +kernel) rfl ⟨Nat.le_of_ble_eq_true rfl, Nat.le_of_ble_eq_true rfl⟩ rfl (Nat.le_of_ble_eq_true rfl) dX5_isStratum_11) hf (fun r3 h c hf => ?_)
  exact sj_zret hf rfl rfl dX5_isStratum_14
/-! SofaDigModel.notBeforeNow(I)I -/
abbrev cX5_notBeforeNow : ByteArray := prog_46_method_26_code
def yX5_notBeforeNow : MethodName := ⟨RX5, "notBeforeNow", "(I)I"⟩
def dkwX5_notBeforeNow_3 : List UInt8 := [180, 0, 122, 29, 46, 46, 184, 0, 128, 61, 132, 3, 1, 167, 255, 179, 28, 172]
abbrev dktX5_notBeforeNow_3 : List UInt8 := dkwX5_notBeforeNow_3 ++ []
def dkwX5_notBeforeNow_2 : List UInt8 := [180, 0, 20, 180, 0, 122, 29, 46, 167, 0, 20, 42, 180, 0, 20, 180, 0, 125, 42, 180, 0, 20]
abbrev dktX5_notBeforeNow_2 : List UInt8 := dkwX5_notBeforeNow_2 ++ dktX5_notBeforeNow_3
def dkwX5_notBeforeNow_1 : List UInt8 := [29, 182, 0, 116, 27, 163, 0, 49, 28, 42, 180, 0, 20, 180, 0, 119, 29, 51, 153, 0, 15, 42]
abbrev dktX5_notBeforeNow_1 : List UInt8 := dkwX5_notBeforeNow_1 ++ dktX5_notBeforeNow_2
def dkwX5_notBeforeNow_0 : List UInt8 := [2, 61, 3, 62, 29, 42, 180, 0, 20, 180, 0, 65, 162, 0, 72, 42, 29, 182, 0, 113, 153, 0, 58, 42]
abbrev dktX5_notBeforeNow_0 : List UInt8 := dkwX5_notBeforeNow_0 ++ dktX5_notBeforeNow_1
theorem dksX5_notBeforeNow_0 : cX5_notBeforeNow.data.toList.drop 0 = dktX5_notBeforeNow_0 := by decide +kernel
theorem dksX5_notBeforeNow_1 : cX5_notBeforeNow.data.toList.drop 24 = dktX5_notBeforeNow_1 := dk_seg dksX5_notBeforeNow_0 24 rfl rfl
theorem dksX5_notBeforeNow_2 : cX5_notBeforeNow.data.toList.drop 46 = dktX5_notBeforeNow_2 := dk_seg dksX5_notBeforeNow_1 22 rfl rfl
theorem dksX5_notBeforeNow_3 : cX5_notBeforeNow.data.toList.drop 68 = dktX5_notBeforeNow_3 := dk_seg dksX5_notBeforeNow_2 22 rfl rfl
theorem dX5_notBeforeNow_0 : decode cX5_notBeforeNow 0 = .ok (.iconst (-1), 1) := dk_2 (dk_at dksX5_notBeforeNow_0 0 rfl rfl)
theorem dX5_notBeforeNow_1 : decode cX5_notBeforeNow 1 = .ok (.istore_n 2, 1) := dk_61 (dk_at dksX5_notBeforeNow_0 1 rfl rfl)
theorem dX5_notBeforeNow_2 : decode cX5_notBeforeNow 2 = .ok (.iconst 0, 1) := dk_3 (dk_at dksX5_notBeforeNow_0 2 rfl rfl)
theorem dX5_notBeforeNow_3 : decode cX5_notBeforeNow 3 = .ok (.istore_n 3, 1) := dk_62 (dk_at dksX5_notBeforeNow_0 3 rfl rfl)
theorem dX5_notBeforeNow_4 : decode cX5_notBeforeNow 4 = .ok (.iload_n 3, 1) := dk_29 (dk_at dksX5_notBeforeNow_0 4 rfl rfl)
theorem dX5_notBeforeNow_5 : decode cX5_notBeforeNow 5 = .ok (.aload_n 0, 1) := dk_42 (dk_at dksX5_notBeforeNow_0 5 rfl rfl)
theorem dX5_notBeforeNow_6 : decode cX5_notBeforeNow 6 = .ok (.getfield 20, 3) := dk_180 0 20 (dk_at dksX5_notBeforeNow_0 6 rfl rfl)
theorem dX5_notBeforeNow_9 : decode cX5_notBeforeNow 9 = .ok (.getfield 65, 3) := dk_180 0 65 (dk_at dksX5_notBeforeNow_0 9 rfl rfl)
theorem dX5_notBeforeNow_12 : decode cX5_notBeforeNow 12 = .ok (.if_icmp .ge 72, 3) := dk_162 0 72 (dk_at dksX5_notBeforeNow_0 12 rfl rfl)
theorem dX5_notBeforeNow_15 : decode cX5_notBeforeNow 15 = .ok (.aload_n 0, 1) := dk_42 (dk_at dksX5_notBeforeNow_0 15 rfl rfl)
theorem dX5_notBeforeNow_16 : decode cX5_notBeforeNow 16 = .ok (.iload_n 3, 1) := dk_29 (dk_at dksX5_notBeforeNow_0 16 rfl rfl)
theorem dX5_notBeforeNow_17 : decode cX5_notBeforeNow 17 = .ok (.invokevirtual 113, 3) := dk_182 0 113 (dk_at dksX5_notBeforeNow_0 17 rfl rfl)
theorem dX5_notBeforeNow_20 : decode cX5_notBeforeNow 20 = .ok (.ifCond .eq 58, 3) := dk_153 0 58 (dk_at dksX5_notBeforeNow_0 20 rfl rfl)
theorem dX5_notBeforeNow_23 : decode cX5_notBeforeNow 23 = .ok (.aload_n 0, 1) := dk_42 (dk_at dksX5_notBeforeNow_0 23 rfl rfl)
theorem dX5_notBeforeNow_24 : decode cX5_notBeforeNow 24 = .ok (.iload_n 3, 1) := dk_29 (dk_at dksX5_notBeforeNow_1 0 rfl rfl)
theorem dX5_notBeforeNow_25 : decode cX5_notBeforeNow 25 = .ok (.invokevirtual 116, 3) := dk_182 0 116 (dk_at dksX5_notBeforeNow_1 1 rfl rfl)
theorem dX5_notBeforeNow_28 : decode cX5_notBeforeNow 28 = .ok (.iload_n 1, 1) := dk_27 (dk_at dksX5_notBeforeNow_1 4 rfl rfl)
theorem dX5_notBeforeNow_29 : decode cX5_notBeforeNow 29 = .ok (.if_icmp .gt 49, 3) := dk_163 0 49 (dk_at dksX5_notBeforeNow_1 5 rfl rfl)
theorem dX5_notBeforeNow_32 : decode cX5_notBeforeNow 32 = .ok (.iload_n 2, 1) := dk_28 (dk_at dksX5_notBeforeNow_1 8 rfl rfl)
theorem dX5_notBeforeNow_33 : decode cX5_notBeforeNow 33 = .ok (.aload_n 0, 1) := dk_42 (dk_at dksX5_notBeforeNow_1 9 rfl rfl)
theorem dX5_notBeforeNow_34 : decode cX5_notBeforeNow 34 = .ok (.getfield 20, 3) := dk_180 0 20 (dk_at dksX5_notBeforeNow_1 10 rfl rfl)
theorem dX5_notBeforeNow_37 : decode cX5_notBeforeNow 37 = .ok (.getfield 119, 3) := dk_180 0 119 (dk_at dksX5_notBeforeNow_1 13 rfl rfl)
theorem dX5_notBeforeNow_40 : decode cX5_notBeforeNow 40 = .ok (.iload_n 3, 1) := dk_29 (dk_at dksX5_notBeforeNow_1 16 rfl rfl)
theorem dX5_notBeforeNow_41 : decode cX5_notBeforeNow 41 = .ok (.baload, 1) := dk_51 (dk_at dksX5_notBeforeNow_1 17 rfl rfl)
theorem dX5_notBeforeNow_42 : decode cX5_notBeforeNow 42 = .ok (.ifCond .eq 15, 3) := dk_153 0 15 (dk_at dksX5_notBeforeNow_1 18 rfl rfl)
theorem dX5_notBeforeNow_45 : decode cX5_notBeforeNow 45 = .ok (.aload_n 0, 1) := dk_42 (dk_at dksX5_notBeforeNow_1 21 rfl rfl)
theorem dX5_notBeforeNow_46 : decode cX5_notBeforeNow 46 = .ok (.getfield 20, 3) := dk_180 0 20 (dk_at dksX5_notBeforeNow_2 0 rfl rfl)
theorem dX5_notBeforeNow_49 : decode cX5_notBeforeNow 49 = .ok (.getfield 122, 3) := dk_180 0 122 (dk_at dksX5_notBeforeNow_2 3 rfl rfl)
theorem dX5_notBeforeNow_52 : decode cX5_notBeforeNow 52 = .ok (.iload_n 3, 1) := dk_29 (dk_at dksX5_notBeforeNow_2 6 rfl rfl)
theorem dX5_notBeforeNow_53 : decode cX5_notBeforeNow 53 = .ok (.iaload, 1) := dk_46 (dk_at dksX5_notBeforeNow_2 7 rfl rfl)
theorem dX5_notBeforeNow_54 : decode cX5_notBeforeNow 54 = .ok (.goto 20, 3) := dk_167 0 20 (dk_at dksX5_notBeforeNow_2 8 rfl rfl)
theorem dX5_notBeforeNow_57 : decode cX5_notBeforeNow 57 = .ok (.aload_n 0, 1) := dk_42 (dk_at dksX5_notBeforeNow_2 11 rfl rfl)
theorem dX5_notBeforeNow_58 : decode cX5_notBeforeNow 58 = .ok (.getfield 20, 3) := dk_180 0 20 (dk_at dksX5_notBeforeNow_2 12 rfl rfl)
theorem dX5_notBeforeNow_61 : decode cX5_notBeforeNow 61 = .ok (.getfield 125, 3) := dk_180 0 125 (dk_at dksX5_notBeforeNow_2 15 rfl rfl)
theorem dX5_notBeforeNow_64 : decode cX5_notBeforeNow 64 = .ok (.aload_n 0, 1) := dk_42 (dk_at dksX5_notBeforeNow_2 18 rfl rfl)
theorem dX5_notBeforeNow_65 : decode cX5_notBeforeNow 65 = .ok (.getfield 20, 3) := dk_180 0 20 (dk_at dksX5_notBeforeNow_2 19 rfl rfl)
theorem dX5_notBeforeNow_68 : decode cX5_notBeforeNow 68 = .ok (.getfield 122, 3) := dk_180 0 122 (dk_at dksX5_notBeforeNow_3 0 rfl rfl)
theorem dX5_notBeforeNow_71 : decode cX5_notBeforeNow 71 = .ok (.iload_n 3, 1) := dk_29 (dk_at dksX5_notBeforeNow_3 3 rfl rfl)
theorem dX5_notBeforeNow_72 : decode cX5_notBeforeNow 72 = .ok (.iaload, 1) := dk_46 (dk_at dksX5_notBeforeNow_3 4 rfl rfl)
theorem dX5_notBeforeNow_73 : decode cX5_notBeforeNow 73 = .ok (.iaload, 1) := dk_46 (dk_at dksX5_notBeforeNow_3 5 rfl rfl)
theorem dX5_notBeforeNow_74 : decode cX5_notBeforeNow 74 = .ok (.invokestatic 128, 3) := dk_184 0 128 (dk_at dksX5_notBeforeNow_3 6 rfl rfl)
theorem dX5_notBeforeNow_77 : decode cX5_notBeforeNow 77 = .ok (.istore_n 2, 1) := dk_61 (dk_at dksX5_notBeforeNow_3 9 rfl rfl)
theorem dX5_notBeforeNow_78 : decode cX5_notBeforeNow 78 = .ok (.iinc 3 1, 3) := dk_132 3 1 (dk_at dksX5_notBeforeNow_3 10 rfl rfl)
theorem dX5_notBeforeNow_81 : decode cX5_notBeforeNow 81 = .ok (.goto (-77), 3) := dk_167 255 179 (dk_at dksX5_notBeforeNow_3 13 rfl rfl)
theorem dX5_notBeforeNow_84 : decode cX5_notBeforeNow 84 = .ok (.iload_n 2, 1) := dk_28 (dk_at dksX5_notBeforeNow_3 16 rfl rfl)
theorem dX5_notBeforeNow_85 : decode cX5_notBeforeNow 85 = .ok (.ireturn, 1) := dk_172 (dk_at dksX5_notBeforeNow_3 17 rfl rfl)
abbrev mX5_notBeforeNow : sd_Y := (yX5_notBeforeNow, cX5_notBeforeNow, 4, some (.int), none)
def fX5_notBeforeNow_b4 (G : sd_G) (k4 : Nat × Int32 × Int32 × Int32 → sd_M Int32) (w0 : Nat) (w1 : Int32) (w2 : Int32) (w3 : Int32) : sd_M Int32 :=
  sd_bnd (sd_getR G 4 4 w0) fun v1 =>
  sd_bnd (sd_getI G 5 6 v1) fun v2 =>
  if v2 ≤ w3 then (
    sd_ret w2)
  else (
    sd_bnd (sd_isC G 4 w0) fun _ =>
    sd_bnd (fX5_sure G w0 w3) fun r3 =>
    if r3 = 0 then (
      sd_bnd (sd_ret (w3 + 1)) fun x4 =>
      k4 (w0, w1, w2, x4))
    else (
      sd_bnd (sd_isC G 4 w0) fun _ =>
      sd_bnd (fX5_stratum G w0 w3) fun r5 =>
      if w1 < r5 then (
        sd_bnd (sd_ret (w3 + 1)) fun x6 =>
        k4 (w0, w1, w2, x6))
      else (
        sd_bnd (sd_getR G 4 4 w0) fun v7 =>
        sd_bnd (sd_getR G 5 7 v7) fun v8 =>
        sd_bnd (sd_aldI G 3 v8 w3) fun v9 =>
        if v9 = 0 then (
          sd_bnd (sd_getR G 4 4 w0) fun v10 =>
          sd_bnd (sd_getR G 5 4 v10) fun v11 =>
          sd_bnd (sd_getR G 4 4 w0) fun v12 =>
          sd_bnd (sd_getR G 5 9 v12) fun v13 =>
          sd_bnd (sd_aldI G 0 v13 w3) fun v14 =>
          sd_bnd (sd_aldI G 0 v11 v14) fun v15 =>
          sd_bnd (fJ4_max G w2 v15) fun r16 =>
          sd_bnd (sd_ret (w3 + 1)) fun x17 =>
          k4 (w0, w1, r16, x17))
        else (
          sd_bnd (sd_getR G 4 4 w0) fun v18 =>
          sd_bnd (sd_getR G 5 9 v18) fun v19 =>
          sd_bnd (sd_aldI G 0 v19 w3) fun v20 =>
          sd_bnd (fJ4_max G w2 v20) fun r21 =>
          sd_bnd (sd_ret (w3 + 1)) fun x22 =>
          k4 (w0, w1, r21, x22)))))
set_option maxHeartbeats 4000000 in
theorem sX5_notBeforeNow_b4 (l : Launch) (G : sd_G) (a0 : Nat) (a1 : Int32) (ρ : Int32) (h2 : sd_H) (cT : Nat × Nat) (k4 : Nat × Int32 × Int32 × Int32 → sd_M Int32) (Hk4 : ∀ (q : Nat × Int32 × Int32 × Int32) (h : sd_H) (c : Nat × Nat), k4 q h = some (ρ, c, h2) → sd_J mX5_notBeforeNow ((l, G), (1, 21), [.ref a0, .int a1], (sd_oI ρ, h2), cT) 4 [(0, .ref q.1), (1, .int q.2.1), (2, .int q.2.2.1), (3, .int q.2.2.2)] [] h c) (w0 : Nat) (w1 : Int32) (w2 : Int32) (w3 : Int32) (h : sd_H) (c : Nat × Nat) (hf : fX5_notBeforeNow_b4 G k4 w0 w1 w2 w3 h = some (ρ, c, h2)) : sd_J mX5_notBeforeNow ((l, G), (1, 21), [.ref a0, .int a1], (sd_oI ρ, h2), cT) 4 [(0, .ref w0), (1, .int w1), (2, .int w2), (3, .int w3)] [] h c := by
  unfold fX5_notBeforeNow_b4 at hf
  refine sj_iload_n 3 dX5_notBeforeNow_4 rfl ?_
  refine sj_aload_n 0 dX5_notBeforeNow_5 rfl ?_
  refine sj_getR fdX5_20_4 hf dX5_notBeforeNow_6 (fun v1 hf => ?_)
  refine sj_getI fdX5_65_5 hf dX5_notBeforeNow_9 (fun v2 hf => ?_)
  refine sj_icge 84 hf dX5_notBeforeNow_12 (by decide) (fun g12 hf => ?_) (fun g12 hf => ?_)
  · refine sj_iload_n 2 dX5_notBeforeNow_84 rfl ?_
    exact sj_iret (o := sd_oI) hf rfl rfl rfl dX5_notBeforeNow_85
  · refine sj_aload_n 0 dX5_notBeforeNow_15 rfl ?_
    refine sj_iload_n 3 dX5_notBeforeNow_16 rfl ?_
    obtain ⟨fs17, he17, hf⟩ := sd_isC_some hf
    refine sj_cI (rest := []) (fun _ _ _ e => sj_runV (n := 1) (As := [.int w3]) (rest := []) (sX5_sure l G w0 w3 h _ _ _ e) he17 rfl rfl rfl rfl q3238 q3240 qs92 q127 q3241 (by decide +kernel) rfl rfl ⟨Nat.le_of_ble_eq_true rfl, Nat.le_of_ble_eq_true rfl⟩ rfl (Nat.le_of_ble_eq_true rfl) dX5_notBeforeNow_17) hf (fun r3 h c hf => ?_)
    refine sj_ifeq 78 hf dX5_notBeforeNow_20 (by decide) (fun g20 hf => ?_) (fun g20 hf => ?_)
    · refine sj_iincN 3 (fun x4 => [(3, .int x4), (0, .ref w0), (1, .int w1), (2, .int w2)]) 1 hf dX5_notBeforeNow_78 rfl (by decide) (by decide) (fun _ => rfl) (fun x4 hf => ?_)
      refine sj_goto 4 dX5_notBeforeNow_81 (by decide) ?_
      exact sj_loc [1, 2, 3, 0] rfl (Hk4 (w0, w1, w2, x4) _ _ hf)
    · refine sj_aload_n 0 dX5_notBeforeNow_23 rfl ?_
      refine sj_iload_n 3 dX5_notBeforeNow_24 rfl ?_
      obtain ⟨fs25, he25, hf⟩ := sd_isC_some hf
      refine sj_cI (rest := []) (fun _ _ _ e => sj_runV (n := 1) (As := [.int w3]) (rest := []) (sX5_stratum l G w0 w3 h _ _ _ e) he25 rfl rfl rfl rfl q3246 q3248 qs93 q127 q3249 (by decide +kernel) rfl rfl ⟨Nat.le_of_ble_eq_true rfl, Nat.le_of_ble_eq_true rfl⟩ rfl (Nat.le_of_ble_eq_true rfl) dX5_notBeforeNow_25) hf (fun r5 h c hf => ?_)
      refine sj_iload_n 1 dX5_notBeforeNow_28 rfl ?_
      refine sj_icgt 78 hf dX5_notBeforeNow_29 (by decide) (fun g29 hf => ?_) (fun g29 hf => ?_)
      · refine sj_iincN 3 (fun x6 => [(3, .int x6), (0, .ref w0), (1, .int w1), (2, .int w2)]) 1 hf dX5_notBeforeNow_78 rfl (by decide) (by decide) (fun _ => rfl) (fun x6 hf => ?_)
        refine sj_goto 4 dX5_notBeforeNow_81 (by decide) ?_
        exact sj_loc [1, 2, 3, 0] rfl (Hk4 (w0, w1, w2, x6) _ _ hf)
      · refine sj_iload_n 2 dX5_notBeforeNow_32 rfl ?_
        refine sj_aload_n 0 dX5_notBeforeNow_33 rfl ?_
        refine sj_getR fdX5_20_4 hf dX5_notBeforeNow_34 (fun v7 hf => ?_)
        refine sj_getR fdX5_119_5 hf dX5_notBeforeNow_37 (fun v8 hf => ?_)
        refine sj_iload_n 3 dX5_notBeforeNow_40 rfl ?_
        refine sj_zald hf dX5_notBeforeNow_41 (fun v9 hf => ?_)
        refine sj_ifeq 57 hf dX5_notBeforeNow_42 (by decide) (fun g42 hf => ?_) (fun g42 hf => ?_)
        · refine sj_aload_n 0 dX5_notBeforeNow_57 rfl ?_
          refine sj_getR fdX5_20_4 hf dX5_notBeforeNow_58 (fun v10 hf => ?_)
          refine sj_getR fdX5_125_5 hf dX5_notBeforeNow_61 (fun v11 hf => ?_)
          refine sj_aload_n 0 dX5_notBeforeNow_64 rfl ?_
          refine sj_getR fdX5_20_4 hf dX5_notBeforeNow_65 (fun v12 hf => ?_)
          refine sj_getR fdX5_122_5 hf dX5_notBeforeNow_68 (fun v13 hf => ?_)
          refine sj_iload_n 3 dX5_notBeforeNow_71 rfl ?_
          refine sj_iald hf dX5_notBeforeNow_72 (fun v14 hf => ?_)
          refine sj_iald hf dX5_notBeforeNow_73 (fun v15 hf => ?_)
          refine sj_cI (rest := []) (fun _ _ _ e => sj_runS (n := 2) (rest := []) (sJ4_max l G w2 v15 h _ _ _ e) rfl rfl q3282 q357 q124 q358 (by decide +kernel) rfl ⟨Nat.le_of_ble_eq_true rfl, Nat.le_of_ble_eq_true rfl⟩ rfl (Nat.le_of_ble_eq_true rfl) dX5_notBeforeNow_74) hf (fun r16 h c hf => ?_)
          refine sj_istore_n [(2, .int r16), (0, .ref w0), (1, .int w1), (3, .int w3)] dX5_notBeforeNow_77 (by decide) rfl ?_
          refine sj_iincN 3 (fun x17 => [(3, .int x17), (2, .int r16), (0, .ref w0), (1, .int w1)]) 1 hf dX5_notBeforeNow_78 rfl (by decide) (by decide) (fun _ => rfl) (fun x17 hf => ?_)
          refine sj_goto 4 dX5_notBeforeNow_81 (by decide) ?_
          exact sj_loc [2, 3, 1, 0] rfl (Hk4 (w0, w1, r16, x17) _ _ hf)
        · refine sj_aload_n 0 dX5_notBeforeNow_45 rfl ?_
          refine sj_getR fdX5_20_4 hf dX5_notBeforeNow_46 (fun v18 hf => ?_)
          refine sj_getR fdX5_122_5 hf dX5_notBeforeNow_49 (fun v19 hf => ?_)
          refine sj_iload_n 3 dX5_notBeforeNow_52 rfl ?_
          refine sj_iald hf dX5_notBeforeNow_53 (fun v20 hf => ?_)
          refine sj_goto 74 dX5_notBeforeNow_54 (by decide) ?_
          refine sj_cI (rest := []) (fun _ _ _ e => sj_runS (n := 2) (rest := []) (sJ4_max l G w2 v20 h _ _ _ e) rfl rfl q3282 q357 q124 q358 (by decide +kernel) rfl ⟨Nat.le_of_ble_eq_true rfl, Nat.le_of_ble_eq_true rfl⟩ rfl (Nat.le_of_ble_eq_true rfl) dX5_notBeforeNow_74) hf (fun r21 h c hf => ?_)
          refine sj_istore_n [(2, .int r21), (0, .ref w0), (1, .int w1), (3, .int w3)] dX5_notBeforeNow_77 (by decide) rfl ?_
          refine sj_iincN 3 (fun x22 => [(3, .int x22), (2, .int r21), (0, .ref w0), (1, .int w1)]) 1 hf dX5_notBeforeNow_78 rfl (by decide) (by decide) (fun _ => rfl) (fun x22 hf => ?_)
          refine sj_goto 4 dX5_notBeforeNow_81 (by decide) ?_
          exact sj_loc [2, 3, 1, 0] rfl (Hk4 (w0, w1, r21, x22) _ _ hf)
theorem sX5_notBeforeNow_b4_loop (l : Launch) (G : sd_G) (a0 : Nat) (a1 : Int32) (ρ : Int32) (h2 : sd_H) (cT : Nat × Nat) (n : Nat) : ∀ (q : Nat × Int32 × Int32 × Int32) (h : sd_H) (c : Nat × Nat), sd_loop (fun k s => fX5_notBeforeNow_b4 G k s.1 s.2.1 s.2.2.1 s.2.2.2) n q h = some (ρ, c, h2) → sd_J mX5_notBeforeNow ((l, G), (1, 21), [.ref a0, .int a1], (sd_oI ρ, h2), cT) 4 [(0, .ref q.1), (1, .int q.2.1), (2, .int q.2.2.1), (3, .int q.2.2.2)] [] h c := by
  induction n with
  | zero => intro q h c hf; cases hf
  | succ n ih => intro q h c hf; exact sX5_notBeforeNow_b4 l G a0 a1 ρ h2 cT _ ih _ _ _ _ _ _ hf
def fX5_notBeforeNow (G : sd_G) (a0 : Nat) (a1 : Int32) : sd_M Int32 :=
  sd_loop (fun k s => fX5_notBeforeNow_b4 G k s.1 s.2.1 s.2.2.1 s.2.2.2) sd_FU (a0, a1, (-1), 0)
set_option maxHeartbeats 4000000 in
theorem sX5_notBeforeNow (l : Launch) (G : sd_G) (a0 : Nat) (a1 : Int32) (h : sd_H) (ρ : Int32) (cT : Nat × Nat) (h2 : sd_H) (hf : fX5_notBeforeNow G a0 a1 h = some (ρ, cT, h2)) : sd_Met mX5_notBeforeNow ((l, G), (1, 21), [.ref a0, .int a1], (sd_oI ρ, h2), cT) h := by
  refine sd_entry (plainFor_of_name rfl) rfl (Nat.le_of_ble_eq_true rfl) ?_
  show sd_J mX5_notBeforeNow ((l, G), (1, 21), [.ref a0, .int a1], (sd_oI ρ, h2), cT) 0 [(0, .ref a0), (1, .int a1)] [] h cT
  unfold fX5_notBeforeNow at hf
  refine sj_iconst (v := (-1)) dX5_notBeforeNow_0 (by decide) ?_
  refine sj_istore_n [(2, .int (-1)), (0, .ref a0), (1, .int a1)] dX5_notBeforeNow_1 (by decide) rfl ?_
  refine sj_iconst (v := 0) dX5_notBeforeNow_2 (by decide) ?_
  refine sj_istore_n [(3, .int 0), (2, .int (-1)), (0, .ref a0), (1, .int a1)] dX5_notBeforeNow_3 (by decide) rfl ?_
  exact sj_loc [2, 3, 1, 0] rfl (sX5_notBeforeNow_b4_loop l G a0 a1 ρ h2 cT sd_FU (a0, a1, (-1), 0) _ _ hf)
/-! SofaDigModel.notBefore(I)I -/
abbrev cX5_notBefore : ByteArray := prog_46_method_112_code
def yX5_notBefore : MethodName := ⟨RX5, "notBefore", "(I)I"⟩
def dkwX5_notBefore_1 : List UInt8 := [182, 1, 139, 172]
abbrev dktX5_notBefore_1 : List UInt8 := dkwX5_notBefore_1 ++ []
def dkwX5_notBefore_0 : List UInt8 := [42, 3, 181, 0, 58, 42, 27, 182, 1, 164, 153, 0, 11, 42, 27, 182, 1, 167, 167, 0, 8, 42, 4]
abbrev dktX5_notBefore_0 : List UInt8 := dkwX5_notBefore_0 ++ dktX5_notBefore_1
theorem dksX5_notBefore_0 : cX5_notBefore.data.toList.drop 0 = dktX5_notBefore_0 := by decide +kernel
theorem dksX5_notBefore_1 : cX5_notBefore.data.toList.drop 23 = dktX5_notBefore_1 := dk_seg dksX5_notBefore_0 23 rfl rfl
theorem dX5_notBefore_0 : decode cX5_notBefore 0 = .ok (.aload_n 0, 1) := dk_42 (dk_at dksX5_notBefore_0 0 rfl rfl)
theorem dX5_notBefore_1 : decode cX5_notBefore 1 = .ok (.iconst 0, 1) := dk_3 (dk_at dksX5_notBefore_0 1 rfl rfl)
theorem dX5_notBefore_2 : decode cX5_notBefore 2 = .ok (.putfield 58, 3) := dk_181 0 58 (dk_at dksX5_notBefore_0 2 rfl rfl)
theorem dX5_notBefore_5 : decode cX5_notBefore 5 = .ok (.aload_n 0, 1) := dk_42 (dk_at dksX5_notBefore_0 5 rfl rfl)
theorem dX5_notBefore_6 : decode cX5_notBefore 6 = .ok (.iload_n 1, 1) := dk_27 (dk_at dksX5_notBefore_0 6 rfl rfl)
theorem dX5_notBefore_7 : decode cX5_notBefore 7 = .ok (.invokevirtual 420, 3) := dk_182 1 164 (dk_at dksX5_notBefore_0 7 rfl rfl)
theorem dX5_notBefore_10 : decode cX5_notBefore 10 = .ok (.ifCond .eq 11, 3) := dk_153 0 11 (dk_at dksX5_notBefore_0 10 rfl rfl)
theorem dX5_notBefore_13 : decode cX5_notBefore 13 = .ok (.aload_n 0, 1) := dk_42 (dk_at dksX5_notBefore_0 13 rfl rfl)
theorem dX5_notBefore_14 : decode cX5_notBefore 14 = .ok (.iload_n 1, 1) := dk_27 (dk_at dksX5_notBefore_0 14 rfl rfl)
theorem dX5_notBefore_15 : decode cX5_notBefore 15 = .ok (.invokevirtual 423, 3) := dk_182 1 167 (dk_at dksX5_notBefore_0 15 rfl rfl)
theorem dX5_notBefore_18 : decode cX5_notBefore 18 = .ok (.goto 8, 3) := dk_167 0 8 (dk_at dksX5_notBefore_0 18 rfl rfl)
theorem dX5_notBefore_21 : decode cX5_notBefore 21 = .ok (.aload_n 0, 1) := dk_42 (dk_at dksX5_notBefore_0 21 rfl rfl)
theorem dX5_notBefore_22 : decode cX5_notBefore 22 = .ok (.iconst 1, 1) := dk_4 (dk_at dksX5_notBefore_0 22 rfl rfl)
theorem dX5_notBefore_23 : decode cX5_notBefore 23 = .ok (.invokevirtual 395, 3) := dk_182 1 139 (dk_at dksX5_notBefore_1 0 rfl rfl)
theorem dX5_notBefore_26 : decode cX5_notBefore 26 = .ok (.ireturn, 1) := dk_172 (dk_at dksX5_notBefore_1 3 rfl rfl)
abbrev mX5_notBefore : sd_Y := (yX5_notBefore, cX5_notBefore, 2, some (.int), none)
def fX5_notBefore (G : sd_G) (a0 : Nat) (a1 : Int32) : sd_M Int32 :=
  sd_bnd (sd_put 4 0 .int a0 (.int 0)) fun _ =>
  sd_bnd (sd_isC G 4 a0) fun _ =>
  sd_bnd (fX5_isStratum G a0 a1) fun r1 =>
  if r1 = 0 then (
    sd_bnd (sd_isC G 4 a0) fun _ =>
    sd_bnd (fX5_no G a0 1) fun r2 =>
    sd_ret r2)
  else (
    sd_bnd (sd_isC G 4 a0) fun _ =>
    sd_bnd (fX5_notBeforeNow G a0 a1) fun r3 =>
    sd_ret r3)
set_option maxHeartbeats 4000000 in
theorem sX5_notBefore (l : Launch) (G : sd_G) (a0 : Nat) (a1 : Int32) (h : sd_H) (ρ : Int32) (cT : Nat × Nat) (h2 : sd_H) (hf : fX5_notBefore G a0 a1 h = some (ρ, cT, h2)) : sd_Met mX5_notBefore ((l, G), (2, 44), [.ref a0, .int a1], (sd_oI ρ, h2), cT) h := by
  refine sd_entry (plainFor_of_name rfl) rfl (Nat.le_of_ble_eq_true rfl) ?_
  show sd_J mX5_notBefore ((l, G), (2, 44), [.ref a0, .int a1], (sd_oI ρ, h2), cT) 0 [(0, .ref a0), (1, .int a1)] [] h cT
  unfold fX5_notBefore at hf
  refine sj_aload_n 0 dX5_notBefore_0 rfl ?_
  refine sj_iconst (v := 0) dX5_notBefore_1 (by decide) ?_
  refine sj_put (fpX5_58_4 _ _) hf dX5_notBefore_2 (fun h hf => ?_)
  refine sj_aload_n 0 dX5_notBefore_5 rfl ?_
  refine sj_iload_n 1 dX5_notBefore_6 rfl ?_
  obtain ⟨fs7, he7, hf⟩ := sd_isC_some hf
  refine sj_cI (rest := []) (fun _ _ _ e => sj_runV (n := 1) (As := [.int a1]) (rest := []) (sX5_isStratum l G a0 a1 h _ _ _ e) he7 rfl rfl rfl rfl q3274 q3276 qs96 q127 q3277 (by decide +kernel) rfl rfl ⟨Nat.le_of_ble_eq_true rfl, Nat.le_of_ble_eq_true rfl⟩ rfl (Nat.le_of_ble_eq_true rfl) dX5_notBefore_7) hf (fun r1 h c hf => ?_)
  refine sj_ifeq 21 hf dX5_notBefore_10 (by decide) (fun g10 hf => ?_) (fun g10 hf => ?_)
  · refine sj_aload_n 0 dX5_notBefore_21 rfl ?_
    refine sj_iconst (v := 1) dX5_notBefore_22 (by decide) ?_
    obtain ⟨fs23, he23, hf⟩ := sd_isC_some hf
    refine sj_cI (rest := []) (fun _ _ _ e => sj_runV (n := 1) (As := [.int 1]) (rest := []) (sX5_no l G a0 1 h _ _ _ e) he23 rfl rfl rfl rfl q2913 q2915 qs42 q127 q2916 (by decide +kernel) rfl rfl ⟨Nat.le_of_ble_eq_true rfl, Nat.le_of_ble_eq_true rfl⟩ rfl (Nat.le_of_ble_eq_true rfl) dX5_notBefore_23) hf (fun r2 h c hf => ?_)
    exact sj_iret (o := sd_oI) hf rfl rfl rfl dX5_notBefore_26
  · refine sj_aload_n 0 dX5_notBefore_13 rfl ?_
    refine sj_iload_n 1 dX5_notBefore_14 rfl ?_
    obtain ⟨fs15, he15, hf⟩ := sd_isC_some hf
    refine sj_cI (rest := []) (fun _ _ _ e => sj_runV (n := 1) (As := [.int a1]) (rest := []) (sX5_notBeforeNow l G a0 a1 h _ _ _ e) he15 rfl rfl rfl rfl q3278 q3280 qs97 q127 q3281 (by decide +kernel) rfl rfl ⟨Nat.le_of_ble_eq_true rfl, Nat.le_of_ble_eq_true rfl⟩ rfl (Nat.le_of_ble_eq_true rfl) dX5_notBefore_15) hf (fun r3 h c hf => ?_)
    refine sj_goto 26 dX5_notBefore_18 (by decide) ?_
    exact sj_iret (o := sd_oI) hf rfl rfl rfl dX5_notBefore_26
/-! SofaDigModel.seenIn(II)Z -/
abbrev cX5_seenIn : ByteArray := prog_46_method_27_code
def yX5_seenIn : MethodName := ⟨RX5, "seenIn", "(II)Z"⟩
def dkwX5_seenIn_2 : List UInt8 := [42, 29, 182, 0, 116, 27, 160, 0, 5, 4, 172, 132, 3, 1, 167, 255, 198, 3, 172]
abbrev dktX5_seenIn_2 : List UInt8 := dkwX5_seenIn_2 ++ []
def dkwX5_seenIn_1 : List UInt8 := [180, 0, 20, 180, 0, 119, 29, 51, 154, 0, 27, 42, 180, 0, 20, 180, 0, 122, 29, 46, 28, 160, 0, 14]
abbrev dktX5_seenIn_1 : List UInt8 := dkwX5_seenIn_1 ++ dktX5_seenIn_2
def dkwX5_seenIn_0 : List UInt8 := [3, 62, 29, 42, 180, 0, 20, 180, 0, 65, 162, 0, 53, 42, 29, 182, 0, 113, 153, 0, 39, 42]
abbrev dktX5_seenIn_0 : List UInt8 := dkwX5_seenIn_0 ++ dktX5_seenIn_1
theorem dksX5_seenIn_0 : cX5_seenIn.data.toList.drop 0 = dktX5_seenIn_0 := by decide +kernel
theorem dksX5_seenIn_1 : cX5_seenIn.data.toList.drop 22 = dktX5_seenIn_1 := dk_seg dksX5_seenIn_0 22 rfl rfl
theorem dksX5_seenIn_2 : cX5_seenIn.data.toList.drop 46 = dktX5_seenIn_2 := dk_seg dksX5_seenIn_1 24 rfl rfl
theorem dX5_seenIn_0 : decode cX5_seenIn 0 = .ok (.iconst 0, 1) := dk_3 (dk_at dksX5_seenIn_0 0 rfl rfl)
theorem dX5_seenIn_1 : decode cX5_seenIn 1 = .ok (.istore_n 3, 1) := dk_62 (dk_at dksX5_seenIn_0 1 rfl rfl)
theorem dX5_seenIn_2 : decode cX5_seenIn 2 = .ok (.iload_n 3, 1) := dk_29 (dk_at dksX5_seenIn_0 2 rfl rfl)
theorem dX5_seenIn_3 : decode cX5_seenIn 3 = .ok (.aload_n 0, 1) := dk_42 (dk_at dksX5_seenIn_0 3 rfl rfl)
theorem dX5_seenIn_4 : decode cX5_seenIn 4 = .ok (.getfield 20, 3) := dk_180 0 20 (dk_at dksX5_seenIn_0 4 rfl rfl)
theorem dX5_seenIn_7 : decode cX5_seenIn 7 = .ok (.getfield 65, 3) := dk_180 0 65 (dk_at dksX5_seenIn_0 7 rfl rfl)
theorem dX5_seenIn_10 : decode cX5_seenIn 10 = .ok (.if_icmp .ge 53, 3) := dk_162 0 53 (dk_at dksX5_seenIn_0 10 rfl rfl)
theorem dX5_seenIn_13 : decode cX5_seenIn 13 = .ok (.aload_n 0, 1) := dk_42 (dk_at dksX5_seenIn_0 13 rfl rfl)
theorem dX5_seenIn_14 : decode cX5_seenIn 14 = .ok (.iload_n 3, 1) := dk_29 (dk_at dksX5_seenIn_0 14 rfl rfl)
theorem dX5_seenIn_15 : decode cX5_seenIn 15 = .ok (.invokevirtual 113, 3) := dk_182 0 113 (dk_at dksX5_seenIn_0 15 rfl rfl)
theorem dX5_seenIn_18 : decode cX5_seenIn 18 = .ok (.ifCond .eq 39, 3) := dk_153 0 39 (dk_at dksX5_seenIn_0 18 rfl rfl)
theorem dX5_seenIn_21 : decode cX5_seenIn 21 = .ok (.aload_n 0, 1) := dk_42 (dk_at dksX5_seenIn_0 21 rfl rfl)
theorem dX5_seenIn_22 : decode cX5_seenIn 22 = .ok (.getfield 20, 3) := dk_180 0 20 (dk_at dksX5_seenIn_1 0 rfl rfl)
theorem dX5_seenIn_25 : decode cX5_seenIn 25 = .ok (.getfield 119, 3) := dk_180 0 119 (dk_at dksX5_seenIn_1 3 rfl rfl)
theorem dX5_seenIn_28 : decode cX5_seenIn 28 = .ok (.iload_n 3, 1) := dk_29 (dk_at dksX5_seenIn_1 6 rfl rfl)
theorem dX5_seenIn_29 : decode cX5_seenIn 29 = .ok (.baload, 1) := dk_51 (dk_at dksX5_seenIn_1 7 rfl rfl)
theorem dX5_seenIn_30 : decode cX5_seenIn 30 = .ok (.ifCond .ne 27, 3) := dk_154 0 27 (dk_at dksX5_seenIn_1 8 rfl rfl)
theorem dX5_seenIn_33 : decode cX5_seenIn 33 = .ok (.aload_n 0, 1) := dk_42 (dk_at dksX5_seenIn_1 11 rfl rfl)
theorem dX5_seenIn_34 : decode cX5_seenIn 34 = .ok (.getfield 20, 3) := dk_180 0 20 (dk_at dksX5_seenIn_1 12 rfl rfl)
theorem dX5_seenIn_37 : decode cX5_seenIn 37 = .ok (.getfield 122, 3) := dk_180 0 122 (dk_at dksX5_seenIn_1 15 rfl rfl)
theorem dX5_seenIn_40 : decode cX5_seenIn 40 = .ok (.iload_n 3, 1) := dk_29 (dk_at dksX5_seenIn_1 18 rfl rfl)
theorem dX5_seenIn_41 : decode cX5_seenIn 41 = .ok (.iaload, 1) := dk_46 (dk_at dksX5_seenIn_1 19 rfl rfl)
theorem dX5_seenIn_42 : decode cX5_seenIn 42 = .ok (.iload_n 2, 1) := dk_28 (dk_at dksX5_seenIn_1 20 rfl rfl)
theorem dX5_seenIn_43 : decode cX5_seenIn 43 = .ok (.if_icmp .ne 14, 3) := dk_160 0 14 (dk_at dksX5_seenIn_1 21 rfl rfl)
theorem dX5_seenIn_46 : decode cX5_seenIn 46 = .ok (.aload_n 0, 1) := dk_42 (dk_at dksX5_seenIn_2 0 rfl rfl)
theorem dX5_seenIn_47 : decode cX5_seenIn 47 = .ok (.iload_n 3, 1) := dk_29 (dk_at dksX5_seenIn_2 1 rfl rfl)
theorem dX5_seenIn_48 : decode cX5_seenIn 48 = .ok (.invokevirtual 116, 3) := dk_182 0 116 (dk_at dksX5_seenIn_2 2 rfl rfl)
theorem dX5_seenIn_51 : decode cX5_seenIn 51 = .ok (.iload_n 1, 1) := dk_27 (dk_at dksX5_seenIn_2 5 rfl rfl)
theorem dX5_seenIn_52 : decode cX5_seenIn 52 = .ok (.if_icmp .ne 5, 3) := dk_160 0 5 (dk_at dksX5_seenIn_2 6 rfl rfl)
theorem dX5_seenIn_55 : decode cX5_seenIn 55 = .ok (.iconst 1, 1) := dk_4 (dk_at dksX5_seenIn_2 9 rfl rfl)
theorem dX5_seenIn_56 : decode cX5_seenIn 56 = .ok (.ireturn, 1) := dk_172 (dk_at dksX5_seenIn_2 10 rfl rfl)
theorem dX5_seenIn_57 : decode cX5_seenIn 57 = .ok (.iinc 3 1, 3) := dk_132 3 1 (dk_at dksX5_seenIn_2 11 rfl rfl)
theorem dX5_seenIn_60 : decode cX5_seenIn 60 = .ok (.goto (-58), 3) := dk_167 255 198 (dk_at dksX5_seenIn_2 14 rfl rfl)
theorem dX5_seenIn_63 : decode cX5_seenIn 63 = .ok (.iconst 0, 1) := dk_3 (dk_at dksX5_seenIn_2 17 rfl rfl)
theorem dX5_seenIn_64 : decode cX5_seenIn 64 = .ok (.ireturn, 1) := dk_172 (dk_at dksX5_seenIn_2 18 rfl rfl)
abbrev mX5_seenIn : sd_Y := (yX5_seenIn, cX5_seenIn, 4, some (.boolean), none)
def fX5_seenIn_b2 (G : sd_G) (k2 : Nat × Int32 × Int32 × Int32 → sd_M Int32) (w0 : Nat) (w1 : Int32) (w2 : Int32) (w3 : Int32) : sd_M Int32 :=
  sd_bnd (sd_getR G 4 4 w0) fun v1 =>
  sd_bnd (sd_getI G 5 6 v1) fun v2 =>
  if v2 ≤ w3 then (
    sd_ret 0)
  else (
    sd_bnd (sd_isC G 4 w0) fun _ =>
    sd_bnd (fX5_sure G w0 w3) fun r3 =>
    if r3 = 0 then (
      sd_bnd (sd_ret (w3 + 1)) fun x4 =>
      k2 (w0, w1, w2, x4))
    else (
      sd_bnd (sd_getR G 4 4 w0) fun v5 =>
      sd_bnd (sd_getR G 5 7 v5) fun v6 =>
      sd_bnd (sd_aldI G 3 v6 w3) fun v7 =>
      if v7 = 0 then (
        sd_bnd (sd_getR G 4 4 w0) fun v9 =>
        sd_bnd (sd_getR G 5 9 v9) fun v10 =>
        sd_bnd (sd_aldI G 0 v10 w3) fun v11 =>
        if v11 = w2 then (
          sd_bnd (sd_isC G 4 w0) fun _ =>
          sd_bnd (fX5_stratum G w0 w3) fun r13 =>
          if r13 = w1 then (
            sd_ret 1)
          else (
            sd_bnd (sd_ret (w3 + 1)) fun x14 =>
            k2 (w0, w1, w2, x14)))
        else (
          sd_bnd (sd_ret (w3 + 1)) fun x12 =>
          k2 (w0, w1, w2, x12)))
      else (
        sd_bnd (sd_ret (w3 + 1)) fun x8 =>
        k2 (w0, w1, w2, x8))))
set_option maxHeartbeats 4000000 in
theorem sX5_seenIn_b2 (l : Launch) (G : sd_G) (a0 : Nat) (a1 : Int32) (a2 : Int32) (ρ : Int32) (h2 : sd_H) (cT : Nat × Nat) (k2 : Nat × Int32 × Int32 × Int32 → sd_M Int32) (Hk2 : ∀ (q : Nat × Int32 × Int32 × Int32) (h : sd_H) (c : Nat × Nat), k2 q h = some (ρ, c, h2) → sd_J mX5_seenIn ((l, G), (1, 21), [.ref a0, .int a1, .int a2], (sd_oI ρ, h2), cT) 2 [(0, .ref q.1), (1, .int q.2.1), (2, .int q.2.2.1), (3, .int q.2.2.2)] [] h c) (w0 : Nat) (w1 : Int32) (w2 : Int32) (w3 : Int32) (h : sd_H) (c : Nat × Nat) (hf : fX5_seenIn_b2 G k2 w0 w1 w2 w3 h = some (ρ, c, h2)) : sd_J mX5_seenIn ((l, G), (1, 21), [.ref a0, .int a1, .int a2], (sd_oI ρ, h2), cT) 2 [(0, .ref w0), (1, .int w1), (2, .int w2), (3, .int w3)] [] h c := by
  unfold fX5_seenIn_b2 at hf
  refine sj_iload_n 3 dX5_seenIn_2 rfl ?_
  refine sj_aload_n 0 dX5_seenIn_3 rfl ?_
  refine sj_getR fdX5_20_4 hf dX5_seenIn_4 (fun v1 hf => ?_)
  refine sj_getI fdX5_65_5 hf dX5_seenIn_7 (fun v2 hf => ?_)
  refine sj_icge 63 hf dX5_seenIn_10 (by decide) (fun g10 hf => ?_) (fun g10 hf => ?_)
  · refine sj_iconst (v := 0) dX5_seenIn_63 (by decide) ?_
    exact sj_zretC (o := sd_oI) (ty := .boolean) rfl hf rfl rfl rfl dX5_seenIn_64
  · refine sj_aload_n 0 dX5_seenIn_13 rfl ?_
    refine sj_iload_n 3 dX5_seenIn_14 rfl ?_
    obtain ⟨fs15, he15, hf⟩ := sd_isC_some hf
    refine sj_cI (rest := []) (fun _ _ _ e => sj_runV (n := 1) (As := [.int w3]) (rest := []) (sX5_sure l G w0 w3 h _ _ _ e) he15 rfl rfl rfl rfl q3238 q3240 qs92 q127 q3241 (by decide +kernel) rfl rfl ⟨Nat.le_of_ble_eq_true rfl, Nat.le_of_ble_eq_true rfl⟩ rfl (Nat.le_of_ble_eq_true rfl) dX5_seenIn_15) hf (fun r3 h c hf => ?_)
    refine sj_ifeq 57 hf dX5_seenIn_18 (by decide) (fun g18 hf => ?_) (fun g18 hf => ?_)
    · refine sj_iincN 3 (fun x4 => [(3, .int x4), (0, .ref w0), (1, .int w1), (2, .int w2)]) 1 hf dX5_seenIn_57 rfl (by decide) (by decide) (fun _ => rfl) (fun x4 hf => ?_)
      refine sj_goto 2 dX5_seenIn_60 (by decide) ?_
      exact sj_loc [1, 2, 3, 0] rfl (Hk2 (w0, w1, w2, x4) _ _ hf)
    · refine sj_aload_n 0 dX5_seenIn_21 rfl ?_
      refine sj_getR fdX5_20_4 hf dX5_seenIn_22 (fun v5 hf => ?_)
      refine sj_getR fdX5_119_5 hf dX5_seenIn_25 (fun v6 hf => ?_)
      refine sj_iload_n 3 dX5_seenIn_28 rfl ?_
      refine sj_zald hf dX5_seenIn_29 (fun v7 hf => ?_)
      refine sj_ifne 57 hf dX5_seenIn_30 (by decide) (fun g30 hf => ?_) (fun g30 hf => ?_)
      · refine sj_iincN 3 (fun x8 => [(3, .int x8), (0, .ref w0), (1, .int w1), (2, .int w2)]) 1 hf dX5_seenIn_57 rfl (by decide) (by decide) (fun _ => rfl) (fun x8 hf => ?_)
        refine sj_goto 2 dX5_seenIn_60 (by decide) ?_
        exact sj_loc [1, 2, 3, 0] rfl (Hk2 (w0, w1, w2, x8) _ _ hf)
      · refine sj_aload_n 0 dX5_seenIn_33 rfl ?_
        refine sj_getR fdX5_20_4 hf dX5_seenIn_34 (fun v9 hf => ?_)
        refine sj_getR fdX5_122_5 hf dX5_seenIn_37 (fun v10 hf => ?_)
        refine sj_iload_n 3 dX5_seenIn_40 rfl ?_
        refine sj_iald hf dX5_seenIn_41 (fun v11 hf => ?_)
        refine sj_iload_n 2 dX5_seenIn_42 rfl ?_
        refine sj_icne 57 hf dX5_seenIn_43 (by decide) (fun g43 hf => ?_) (fun g43 hf => ?_)
        · refine sj_iincN 3 (fun x12 => [(3, .int x12), (0, .ref w0), (1, .int w1), (2, .int w2)]) 1 hf dX5_seenIn_57 rfl (by decide) (by decide) (fun _ => rfl) (fun x12 hf => ?_)
          refine sj_goto 2 dX5_seenIn_60 (by decide) ?_
          exact sj_loc [1, 2, 3, 0] rfl (Hk2 (w0, w1, w2, x12) _ _ hf)
        · refine sj_aload_n 0 dX5_seenIn_46 rfl ?_
          refine sj_iload_n 3 dX5_seenIn_47 rfl ?_
          obtain ⟨fs48, he48, hf⟩ := sd_isC_some hf
          refine sj_cI (rest := []) (fun _ _ _ e => sj_runV (n := 1) (As := [.int w3]) (rest := []) (sX5_stratum l G w0 w3 h _ _ _ e) he48 rfl rfl rfl rfl q3246 q3248 qs93 q127 q3249 (by decide +kernel) rfl rfl ⟨Nat.le_of_ble_eq_true rfl, Nat.le_of_ble_eq_true rfl⟩ rfl (Nat.le_of_ble_eq_true rfl) dX5_seenIn_48) hf (fun r13 h c hf => ?_)
          refine sj_iload_n 1 dX5_seenIn_51 rfl ?_
          refine sj_icne 57 hf dX5_seenIn_52 (by decide) (fun g52 hf => ?_) (fun g52 hf => ?_)
          · refine sj_iincN 3 (fun x14 => [(3, .int x14), (0, .ref w0), (1, .int w1), (2, .int w2)]) 1 hf dX5_seenIn_57 rfl (by decide) (by decide) (fun _ => rfl) (fun x14 hf => ?_)
            refine sj_goto 2 dX5_seenIn_60 (by decide) ?_
            exact sj_loc [1, 2, 3, 0] rfl (Hk2 (w0, w1, w2, x14) _ _ hf)
          · refine sj_iconst (v := 1) dX5_seenIn_55 (by decide) ?_
            exact sj_zretC (o := sd_oI) (ty := .boolean) rfl hf rfl rfl rfl dX5_seenIn_56
theorem sX5_seenIn_b2_loop (l : Launch) (G : sd_G) (a0 : Nat) (a1 : Int32) (a2 : Int32) (ρ : Int32) (h2 : sd_H) (cT : Nat × Nat) (n : Nat) : ∀ (q : Nat × Int32 × Int32 × Int32) (h : sd_H) (c : Nat × Nat), sd_loop (fun k s => fX5_seenIn_b2 G k s.1 s.2.1 s.2.2.1 s.2.2.2) n q h = some (ρ, c, h2) → sd_J mX5_seenIn ((l, G), (1, 21), [.ref a0, .int a1, .int a2], (sd_oI ρ, h2), cT) 2 [(0, .ref q.1), (1, .int q.2.1), (2, .int q.2.2.1), (3, .int q.2.2.2)] [] h c := by
  induction n with
  | zero => intro q h c hf; cases hf
  | succ n ih => intro q h c hf; exact sX5_seenIn_b2 l G a0 a1 a2 ρ h2 cT _ ih _ _ _ _ _ _ hf
def fX5_seenIn (G : sd_G) (a0 : Nat) (a1 : Int32) (a2 : Int32) : sd_M Int32 :=
  sd_loop (fun k s => fX5_seenIn_b2 G k s.1 s.2.1 s.2.2.1 s.2.2.2) sd_FU (a0, a1, a2, 0)
set_option maxHeartbeats 4000000 in
theorem sX5_seenIn (l : Launch) (G : sd_G) (a0 : Nat) (a1 : Int32) (a2 : Int32) (h : sd_H) (ρ : Int32) (cT : Nat × Nat) (h2 : sd_H) (hf : fX5_seenIn G a0 a1 a2 h = some (ρ, cT, h2)) : sd_Met mX5_seenIn ((l, G), (1, 21), [.ref a0, .int a1, .int a2], (sd_oI ρ, h2), cT) h := by
  refine sd_entry (plainFor_of_name rfl) rfl (Nat.le_of_ble_eq_true rfl) ?_
  show sd_J mX5_seenIn ((l, G), (1, 21), [.ref a0, .int a1, .int a2], (sd_oI ρ, h2), cT) 0 [(0, .ref a0), (1, .int a1), (2, .int a2)] [] h cT
  unfold fX5_seenIn at hf
  refine sj_iconst (v := 0) dX5_seenIn_0 (by decide) ?_
  refine sj_istore_n [(3, .int 0), (0, .ref a0), (1, .int a1), (2, .int a2)] dX5_seenIn_1 (by decide) rfl ?_
  exact sj_loc [1, 2, 3, 0] rfl (sX5_seenIn_b2_loop l G a0 a1 a2 ρ h2 cT sd_FU (a0, a1, a2, 0) _ _ hf)
/-! SofaDigModel.isSeenIn(II)Z -/
abbrev cX5_isSeenIn : ByteArray := prog_46_method_113_code
def yX5_isSeenIn : MethodName := ⟨RX5, "isSeenIn", "(II)Z"⟩
def dkwX5_isSeenIn_1 : List UInt8 := [184, 0, 61, 153, 0, 12, 42, 27, 28, 182, 0, 134, 167, 0, 8, 42, 4, 182, 1, 148, 172]
abbrev dktX5_isSeenIn_1 : List UInt8 := dkwX5_isSeenIn_1 ++ []
def dkwX5_isSeenIn_0 : List UInt8 := [42, 3, 181, 0, 58, 42, 27, 182, 1, 164, 153, 0, 29, 28, 3, 42, 180, 0, 20, 180, 0, 137, 4, 100]
abbrev dktX5_isSeenIn_0 : List UInt8 := dkwX5_isSeenIn_0 ++ dktX5_isSeenIn_1
theorem dksX5_isSeenIn_0 : cX5_isSeenIn.data.toList.drop 0 = dktX5_isSeenIn_0 := by decide +kernel
theorem dksX5_isSeenIn_1 : cX5_isSeenIn.data.toList.drop 24 = dktX5_isSeenIn_1 := dk_seg dksX5_isSeenIn_0 24 rfl rfl
theorem dX5_isSeenIn_0 : decode cX5_isSeenIn 0 = .ok (.aload_n 0, 1) := dk_42 (dk_at dksX5_isSeenIn_0 0 rfl rfl)
theorem dX5_isSeenIn_1 : decode cX5_isSeenIn 1 = .ok (.iconst 0, 1) := dk_3 (dk_at dksX5_isSeenIn_0 1 rfl rfl)
theorem dX5_isSeenIn_2 : decode cX5_isSeenIn 2 = .ok (.putfield 58, 3) := dk_181 0 58 (dk_at dksX5_isSeenIn_0 2 rfl rfl)
theorem dX5_isSeenIn_5 : decode cX5_isSeenIn 5 = .ok (.aload_n 0, 1) := dk_42 (dk_at dksX5_isSeenIn_0 5 rfl rfl)
theorem dX5_isSeenIn_6 : decode cX5_isSeenIn 6 = .ok (.iload_n 1, 1) := dk_27 (dk_at dksX5_isSeenIn_0 6 rfl rfl)
theorem dX5_isSeenIn_7 : decode cX5_isSeenIn 7 = .ok (.invokevirtual 420, 3) := dk_182 1 164 (dk_at dksX5_isSeenIn_0 7 rfl rfl)
theorem dX5_isSeenIn_10 : decode cX5_isSeenIn 10 = .ok (.ifCond .eq 29, 3) := dk_153 0 29 (dk_at dksX5_isSeenIn_0 10 rfl rfl)
theorem dX5_isSeenIn_13 : decode cX5_isSeenIn 13 = .ok (.iload_n 2, 1) := dk_28 (dk_at dksX5_isSeenIn_0 13 rfl rfl)
theorem dX5_isSeenIn_14 : decode cX5_isSeenIn 14 = .ok (.iconst 0, 1) := dk_3 (dk_at dksX5_isSeenIn_0 14 rfl rfl)
theorem dX5_isSeenIn_15 : decode cX5_isSeenIn 15 = .ok (.aload_n 0, 1) := dk_42 (dk_at dksX5_isSeenIn_0 15 rfl rfl)
theorem dX5_isSeenIn_16 : decode cX5_isSeenIn 16 = .ok (.getfield 20, 3) := dk_180 0 20 (dk_at dksX5_isSeenIn_0 16 rfl rfl)
theorem dX5_isSeenIn_19 : decode cX5_isSeenIn 19 = .ok (.getfield 137, 3) := dk_180 0 137 (dk_at dksX5_isSeenIn_0 19 rfl rfl)
theorem dX5_isSeenIn_22 : decode cX5_isSeenIn 22 = .ok (.iconst 1, 1) := dk_4 (dk_at dksX5_isSeenIn_0 22 rfl rfl)
theorem dX5_isSeenIn_23 : decode cX5_isSeenIn 23 = .ok (.isub, 1) := dk_100 (dk_at dksX5_isSeenIn_0 23 rfl rfl)
theorem dX5_isSeenIn_24 : decode cX5_isSeenIn 24 = .ok (.invokestatic 61, 3) := dk_184 0 61 (dk_at dksX5_isSeenIn_1 0 rfl rfl)
theorem dX5_isSeenIn_27 : decode cX5_isSeenIn 27 = .ok (.ifCond .eq 12, 3) := dk_153 0 12 (dk_at dksX5_isSeenIn_1 3 rfl rfl)
theorem dX5_isSeenIn_30 : decode cX5_isSeenIn 30 = .ok (.aload_n 0, 1) := dk_42 (dk_at dksX5_isSeenIn_1 6 rfl rfl)
theorem dX5_isSeenIn_31 : decode cX5_isSeenIn 31 = .ok (.iload_n 1, 1) := dk_27 (dk_at dksX5_isSeenIn_1 7 rfl rfl)
theorem dX5_isSeenIn_32 : decode cX5_isSeenIn 32 = .ok (.iload_n 2, 1) := dk_28 (dk_at dksX5_isSeenIn_1 8 rfl rfl)
theorem dX5_isSeenIn_33 : decode cX5_isSeenIn 33 = .ok (.invokevirtual 134, 3) := dk_182 0 134 (dk_at dksX5_isSeenIn_1 9 rfl rfl)
theorem dX5_isSeenIn_36 : decode cX5_isSeenIn 36 = .ok (.goto 8, 3) := dk_167 0 8 (dk_at dksX5_isSeenIn_1 12 rfl rfl)
theorem dX5_isSeenIn_39 : decode cX5_isSeenIn 39 = .ok (.aload_n 0, 1) := dk_42 (dk_at dksX5_isSeenIn_1 15 rfl rfl)
theorem dX5_isSeenIn_40 : decode cX5_isSeenIn 40 = .ok (.iconst 1, 1) := dk_4 (dk_at dksX5_isSeenIn_1 16 rfl rfl)
theorem dX5_isSeenIn_41 : decode cX5_isSeenIn 41 = .ok (.invokevirtual 404, 3) := dk_182 1 148 (dk_at dksX5_isSeenIn_1 17 rfl rfl)
theorem dX5_isSeenIn_44 : decode cX5_isSeenIn 44 = .ok (.ireturn, 1) := dk_172 (dk_at dksX5_isSeenIn_1 20 rfl rfl)
abbrev mX5_isSeenIn : sd_Y := (yX5_isSeenIn, cX5_isSeenIn, 3, some (.boolean), none)
def fX5_isSeenIn (G : sd_G) (a0 : Nat) (a1 : Int32) (a2 : Int32) : sd_M Int32 :=
  sd_bnd (sd_put 4 0 .int a0 (.int 0)) fun _ =>
  sd_bnd (sd_isC G 4 a0) fun _ =>
  sd_bnd (fX5_isStratum G a0 a1) fun r1 =>
  if r1 = 0 then (
    sd_bnd (sd_isC G 4 a0) fun _ =>
    sd_bnd (fX5_isNot G a0 1) fun r2 =>
    sd_retN .boolean r2)
  else (
    sd_bnd (sd_getR G 4 4 a0) fun v3 =>
    sd_bnd (sd_getI G 5 2 v3) fun v4 =>
    sd_bnd (fX5_isIn G a2 0 (v4 - 1)) fun r5 =>
    if r5 = 0 then (
      sd_bnd (sd_isC G 4 a0) fun _ =>
      sd_bnd (fX5_isNot G a0 1) fun r6 =>
      sd_retN .boolean r6)
    else (
      sd_bnd (sd_isC G 4 a0) fun _ =>
      sd_bnd (fX5_seenIn G a0 a1 a2) fun r7 =>
      sd_retN .boolean r7))
set_option maxHeartbeats 4000000 in
theorem sX5_isSeenIn (l : Launch) (G : sd_G) (a0 : Nat) (a1 : Int32) (a2 : Int32) (h : sd_H) (ρ : Int32) (cT : Nat × Nat) (h2 : sd_H) (hf : fX5_isSeenIn G a0 a1 a2 h = some (ρ, cT, h2)) : sd_Met mX5_isSeenIn ((l, G), (2, 44), [.ref a0, .int a1, .int a2], (sd_oI ρ, h2), cT) h := by
  refine sd_entry (plainFor_of_name rfl) rfl (Nat.le_of_ble_eq_true rfl) ?_
  show sd_J mX5_isSeenIn ((l, G), (2, 44), [.ref a0, .int a1, .int a2], (sd_oI ρ, h2), cT) 0 [(0, .ref a0), (1, .int a1), (2, .int a2)] [] h cT
  unfold fX5_isSeenIn at hf
  refine sj_aload_n 0 dX5_isSeenIn_0 rfl ?_
  refine sj_iconst (v := 0) dX5_isSeenIn_1 (by decide) ?_
  refine sj_put (fpX5_58_4 _ _) hf dX5_isSeenIn_2 (fun h hf => ?_)
  refine sj_aload_n 0 dX5_isSeenIn_5 rfl ?_
  refine sj_iload_n 1 dX5_isSeenIn_6 rfl ?_
  obtain ⟨fs7, he7, hf⟩ := sd_isC_some hf
  refine sj_cI (rest := []) (fun _ _ _ e => sj_runV (n := 1) (As := [.int a1]) (rest := []) (sX5_isStratum l G a0 a1 h _ _ _ e) he7 rfl rfl rfl rfl q3274 q3276 qs96 q127 q3277 (by decide +kernel) rfl rfl ⟨Nat.le_of_ble_eq_true rfl, Nat.le_of_ble_eq_true rfl⟩ rfl (Nat.le_of_ble_eq_true rfl) dX5_isSeenIn_7) hf (fun r1 h c hf => ?_)
  refine sj_ifeq 39 hf dX5_isSeenIn_10 (by decide) (fun g10 hf => ?_) (fun g10 hf => ?_)
  · refine sj_aload_n 0 dX5_isSeenIn_39 rfl ?_
    refine sj_iconst (v := 1) dX5_isSeenIn_40 (by decide) ?_
    obtain ⟨fs41, he41, hf⟩ := sd_isC_some hf
    refine sj_cI (rest := []) (fun _ _ _ e => sj_runV (n := 1) (As := [.int 1]) (rest := []) (sX5_isNot l G a0 1 h _ _ _ e) he41 rfl rfl rfl rfl q3190 q3192 qs87 q127 q3193 (by decide +kernel) rfl rfl ⟨Nat.le_of_ble_eq_true rfl, Nat.le_of_ble_eq_true rfl⟩ rfl (Nat.le_of_ble_eq_true rfl) dX5_isSeenIn_41) hf (fun r2 h c hf => ?_)
    exact sj_zret hf rfl rfl dX5_isSeenIn_44
  · refine sj_iload_n 2 dX5_isSeenIn_13 rfl ?_
    refine sj_iconst (v := 0) dX5_isSeenIn_14 (by decide) ?_
    refine sj_aload_n 0 dX5_isSeenIn_15 rfl ?_
    refine sj_getR fdX5_20_4 hf dX5_isSeenIn_16 (fun v3 hf => ?_)
    refine sj_getI fdX5_137_5 hf dX5_isSeenIn_19 (fun v4 hf => ?_)
    refine sj_iconst (v := 1) dX5_isSeenIn_22 (by decide) ?_
    refine sj_isub dX5_isSeenIn_23 ?_
    refine sj_cI (rest := []) (fun _ _ _ e => sj_runS (n := 3) (rest := []) (sX5_isIn l G a2 0 (v4 - 1) h _ _ _ e) rfl rfl q2921 q2922 q127 q2923 (by decide +kernel) rfl ⟨Nat.le_of_ble_eq_true rfl, Nat.le_of_ble_eq_true rfl⟩ rfl (Nat.le_of_ble_eq_true rfl) dX5_isSeenIn_24) hf (fun r5 h c hf => ?_)
    refine sj_ifeq 39 hf dX5_isSeenIn_27 (by decide) (fun g27 hf => ?_) (fun g27 hf => ?_)
    · refine sj_aload_n 0 dX5_isSeenIn_39 rfl ?_
      refine sj_iconst (v := 1) dX5_isSeenIn_40 (by decide) ?_
      obtain ⟨fs41, he41, hf⟩ := sd_isC_some hf
      refine sj_cI (rest := []) (fun _ _ _ e => sj_runV (n := 1) (As := [.int 1]) (rest := []) (sX5_isNot l G a0 1 h _ _ _ e) he41 rfl rfl rfl rfl q3190 q3192 qs87 q127 q3193 (by decide +kernel) rfl rfl ⟨Nat.le_of_ble_eq_true rfl, Nat.le_of_ble_eq_true rfl⟩ rfl (Nat.le_of_ble_eq_true rfl) dX5_isSeenIn_41) hf (fun r6 h c hf => ?_)
      exact sj_zret hf rfl rfl dX5_isSeenIn_44
    · refine sj_aload_n 0 dX5_isSeenIn_30 rfl ?_
      refine sj_iload_n 1 dX5_isSeenIn_31 rfl ?_
      refine sj_iload_n 2 dX5_isSeenIn_32 rfl ?_
      obtain ⟨fs33, he33, hf⟩ := sd_isC_some hf
      refine sj_cI (rest := []) (fun _ _ _ e => sj_runV (n := 2) (As := [.int a1, .int a2]) (rest := []) (sX5_seenIn l G a0 a1 a2 h _ _ _ e) he33 rfl rfl rfl rfl q3287 q3289 qs98 q127 q3290 (by decide +kernel) rfl rfl ⟨Nat.le_of_ble_eq_true rfl, Nat.le_of_ble_eq_true rfl⟩ rfl (Nat.le_of_ble_eq_true rfl) dX5_isSeenIn_33) hf (fun r7 h c hf => ?_)
      refine sj_goto 44 dX5_isSeenIn_36 (by decide) ?_
      exact sj_zret hf rfl rfl dX5_isSeenIn_44
/-! SofaDigModel.mixed(I)Z -/
abbrev cX5_mixed : ByteArray := prog_46_method_29_code
def yX5_mixed : MethodName := ⟨RX5, "mixed", "(I)Z"⟩
def dkwX5_mixed_3 : List UInt8 := [167, 255, 201, 132, 2, 1, 167, 255, 182, 3, 172]
abbrev dktX5_mixed_3 : List UInt8 := dkwX5_mixed_3 ++ []
def dkwX5_mixed_2 : List UInt8 := [42, 27, 28, 182, 0, 134, 153, 0, 14, 42, 27, 29, 182, 0, 134, 153, 0, 5, 4, 172, 132, 3, 1]
abbrev dktX5_mixed_2 : List UInt8 := dkwX5_mixed_2 ++ dktX5_mixed_3
def dkwX5_mixed_1 : List UInt8 := [162, 0, 50, 42, 180, 0, 20, 180, 0, 140, 28, 46, 42, 180, 0, 20, 180, 0, 125, 29, 46, 162, 0, 23]
abbrev dktX5_mixed_1 : List UInt8 := dkwX5_mixed_1 ++ dktX5_mixed_2
def dkwX5_mixed_0 : List UInt8 := [3, 61, 28, 42, 180, 0, 20, 180, 0, 137, 162, 0, 69, 3, 62, 29, 42, 180, 0, 20, 180, 0, 137]
abbrev dktX5_mixed_0 : List UInt8 := dkwX5_mixed_0 ++ dktX5_mixed_1
theorem dksX5_mixed_0 : cX5_mixed.data.toList.drop 0 = dktX5_mixed_0 := by decide +kernel
theorem dksX5_mixed_1 : cX5_mixed.data.toList.drop 23 = dktX5_mixed_1 := dk_seg dksX5_mixed_0 23 rfl rfl
theorem dksX5_mixed_2 : cX5_mixed.data.toList.drop 47 = dktX5_mixed_2 := dk_seg dksX5_mixed_1 24 rfl rfl
theorem dksX5_mixed_3 : cX5_mixed.data.toList.drop 70 = dktX5_mixed_3 := dk_seg dksX5_mixed_2 23 rfl rfl
theorem dX5_mixed_0 : decode cX5_mixed 0 = .ok (.iconst 0, 1) := dk_3 (dk_at dksX5_mixed_0 0 rfl rfl)
theorem dX5_mixed_1 : decode cX5_mixed 1 = .ok (.istore_n 2, 1) := dk_61 (dk_at dksX5_mixed_0 1 rfl rfl)
theorem dX5_mixed_2 : decode cX5_mixed 2 = .ok (.iload_n 2, 1) := dk_28 (dk_at dksX5_mixed_0 2 rfl rfl)
theorem dX5_mixed_3 : decode cX5_mixed 3 = .ok (.aload_n 0, 1) := dk_42 (dk_at dksX5_mixed_0 3 rfl rfl)
theorem dX5_mixed_4 : decode cX5_mixed 4 = .ok (.getfield 20, 3) := dk_180 0 20 (dk_at dksX5_mixed_0 4 rfl rfl)
theorem dX5_mixed_7 : decode cX5_mixed 7 = .ok (.getfield 137, 3) := dk_180 0 137 (dk_at dksX5_mixed_0 7 rfl rfl)
theorem dX5_mixed_10 : decode cX5_mixed 10 = .ok (.if_icmp .ge 69, 3) := dk_162 0 69 (dk_at dksX5_mixed_0 10 rfl rfl)
theorem dX5_mixed_13 : decode cX5_mixed 13 = .ok (.iconst 0, 1) := dk_3 (dk_at dksX5_mixed_0 13 rfl rfl)
theorem dX5_mixed_14 : decode cX5_mixed 14 = .ok (.istore_n 3, 1) := dk_62 (dk_at dksX5_mixed_0 14 rfl rfl)
theorem dX5_mixed_15 : decode cX5_mixed 15 = .ok (.iload_n 3, 1) := dk_29 (dk_at dksX5_mixed_0 15 rfl rfl)
theorem dX5_mixed_16 : decode cX5_mixed 16 = .ok (.aload_n 0, 1) := dk_42 (dk_at dksX5_mixed_0 16 rfl rfl)
theorem dX5_mixed_17 : decode cX5_mixed 17 = .ok (.getfield 20, 3) := dk_180 0 20 (dk_at dksX5_mixed_0 17 rfl rfl)
theorem dX5_mixed_20 : decode cX5_mixed 20 = .ok (.getfield 137, 3) := dk_180 0 137 (dk_at dksX5_mixed_0 20 rfl rfl)
theorem dX5_mixed_23 : decode cX5_mixed 23 = .ok (.if_icmp .ge 50, 3) := dk_162 0 50 (dk_at dksX5_mixed_1 0 rfl rfl)
theorem dX5_mixed_26 : decode cX5_mixed 26 = .ok (.aload_n 0, 1) := dk_42 (dk_at dksX5_mixed_1 3 rfl rfl)
theorem dX5_mixed_27 : decode cX5_mixed 27 = .ok (.getfield 20, 3) := dk_180 0 20 (dk_at dksX5_mixed_1 4 rfl rfl)
theorem dX5_mixed_30 : decode cX5_mixed 30 = .ok (.getfield 140, 3) := dk_180 0 140 (dk_at dksX5_mixed_1 7 rfl rfl)
theorem dX5_mixed_33 : decode cX5_mixed 33 = .ok (.iload_n 2, 1) := dk_28 (dk_at dksX5_mixed_1 10 rfl rfl)
theorem dX5_mixed_34 : decode cX5_mixed 34 = .ok (.iaload, 1) := dk_46 (dk_at dksX5_mixed_1 11 rfl rfl)
theorem dX5_mixed_35 : decode cX5_mixed 35 = .ok (.aload_n 0, 1) := dk_42 (dk_at dksX5_mixed_1 12 rfl rfl)
theorem dX5_mixed_36 : decode cX5_mixed 36 = .ok (.getfield 20, 3) := dk_180 0 20 (dk_at dksX5_mixed_1 13 rfl rfl)
theorem dX5_mixed_39 : decode cX5_mixed 39 = .ok (.getfield 125, 3) := dk_180 0 125 (dk_at dksX5_mixed_1 16 rfl rfl)
theorem dX5_mixed_42 : decode cX5_mixed 42 = .ok (.iload_n 3, 1) := dk_29 (dk_at dksX5_mixed_1 19 rfl rfl)
theorem dX5_mixed_43 : decode cX5_mixed 43 = .ok (.iaload, 1) := dk_46 (dk_at dksX5_mixed_1 20 rfl rfl)
theorem dX5_mixed_44 : decode cX5_mixed 44 = .ok (.if_icmp .ge 23, 3) := dk_162 0 23 (dk_at dksX5_mixed_1 21 rfl rfl)
theorem dX5_mixed_47 : decode cX5_mixed 47 = .ok (.aload_n 0, 1) := dk_42 (dk_at dksX5_mixed_2 0 rfl rfl)
theorem dX5_mixed_48 : decode cX5_mixed 48 = .ok (.iload_n 1, 1) := dk_27 (dk_at dksX5_mixed_2 1 rfl rfl)
theorem dX5_mixed_49 : decode cX5_mixed 49 = .ok (.iload_n 2, 1) := dk_28 (dk_at dksX5_mixed_2 2 rfl rfl)
theorem dX5_mixed_50 : decode cX5_mixed 50 = .ok (.invokevirtual 134, 3) := dk_182 0 134 (dk_at dksX5_mixed_2 3 rfl rfl)
theorem dX5_mixed_53 : decode cX5_mixed 53 = .ok (.ifCond .eq 14, 3) := dk_153 0 14 (dk_at dksX5_mixed_2 6 rfl rfl)
theorem dX5_mixed_56 : decode cX5_mixed 56 = .ok (.aload_n 0, 1) := dk_42 (dk_at dksX5_mixed_2 9 rfl rfl)
theorem dX5_mixed_57 : decode cX5_mixed 57 = .ok (.iload_n 1, 1) := dk_27 (dk_at dksX5_mixed_2 10 rfl rfl)
theorem dX5_mixed_58 : decode cX5_mixed 58 = .ok (.iload_n 3, 1) := dk_29 (dk_at dksX5_mixed_2 11 rfl rfl)
theorem dX5_mixed_59 : decode cX5_mixed 59 = .ok (.invokevirtual 134, 3) := dk_182 0 134 (dk_at dksX5_mixed_2 12 rfl rfl)
theorem dX5_mixed_62 : decode cX5_mixed 62 = .ok (.ifCond .eq 5, 3) := dk_153 0 5 (dk_at dksX5_mixed_2 15 rfl rfl)
theorem dX5_mixed_65 : decode cX5_mixed 65 = .ok (.iconst 1, 1) := dk_4 (dk_at dksX5_mixed_2 18 rfl rfl)
theorem dX5_mixed_66 : decode cX5_mixed 66 = .ok (.ireturn, 1) := dk_172 (dk_at dksX5_mixed_2 19 rfl rfl)
theorem dX5_mixed_67 : decode cX5_mixed 67 = .ok (.iinc 3 1, 3) := dk_132 3 1 (dk_at dksX5_mixed_2 20 rfl rfl)
theorem dX5_mixed_70 : decode cX5_mixed 70 = .ok (.goto (-55), 3) := dk_167 255 201 (dk_at dksX5_mixed_3 0 rfl rfl)
theorem dX5_mixed_73 : decode cX5_mixed 73 = .ok (.iinc 2 1, 3) := dk_132 2 1 (dk_at dksX5_mixed_3 3 rfl rfl)
theorem dX5_mixed_76 : decode cX5_mixed 76 = .ok (.goto (-74), 3) := dk_167 255 182 (dk_at dksX5_mixed_3 6 rfl rfl)
theorem dX5_mixed_79 : decode cX5_mixed 79 = .ok (.iconst 0, 1) := dk_3 (dk_at dksX5_mixed_3 9 rfl rfl)
theorem dX5_mixed_80 : decode cX5_mixed 80 = .ok (.ireturn, 1) := dk_172 (dk_at dksX5_mixed_3 10 rfl rfl)
abbrev mX5_mixed : sd_Y := (yX5_mixed, cX5_mixed, 4, some (.boolean), none)
def fX5_mixed_b15 (G : sd_G) (k2 : Nat × Int32 × Int32 → sd_M Int32) (k15 : Nat × Int32 × Int32 × Int32 → sd_M Int32) (w0 : Nat) (w1 : Int32) (w2 : Int32) (w3 : Int32) : sd_M Int32 :=
  sd_bnd (sd_getR G 4 4 w0) fun v3 =>
  sd_bnd (sd_getI G 5 2 v3) fun v4 =>
  if v4 ≤ w3 then (
    sd_bnd (sd_ret (w2 + 1)) fun x5 =>
    k2 (w0, w1, x5))
  else (
    sd_bnd (sd_getR G 4 4 w0) fun v6 =>
    sd_bnd (sd_getR G 5 5 v6) fun v7 =>
    sd_bnd (sd_aldI G 0 v7 w2) fun v8 =>
    sd_bnd (sd_getR G 4 4 w0) fun v9 =>
    sd_bnd (sd_getR G 5 4 v9) fun v10 =>
    sd_bnd (sd_aldI G 0 v10 w3) fun v11 =>
    if v11 ≤ v8 then (
      sd_bnd (sd_ret (w3 + 1)) fun x12 =>
      k15 (w0, w1, w2, x12))
    else (
      sd_bnd (sd_isC G 4 w0) fun _ =>
      sd_bnd (fX5_seenIn G w0 w1 w2) fun r13 =>
      if r13 = 0 then (
        sd_bnd (sd_ret (w3 + 1)) fun x14 =>
        k15 (w0, w1, w2, x14))
      else (
        sd_bnd (sd_isC G 4 w0) fun _ =>
        sd_bnd (fX5_seenIn G w0 w1 w3) fun r15 =>
        if r15 = 0 then (
          sd_bnd (sd_ret (w3 + 1)) fun x16 =>
          k15 (w0, w1, w2, x16))
        else (
          sd_ret 1))))
set_option maxHeartbeats 4000000 in
theorem sX5_mixed_b15 (l : Launch) (G : sd_G) (a0 : Nat) (a1 : Int32) (ρ : Int32) (h2 : sd_H) (cT : Nat × Nat) (k2 : Nat × Int32 × Int32 → sd_M Int32) (Hk2 : ∀ (q : Nat × Int32 × Int32) (h : sd_H) (c : Nat × Nat), k2 q h = some (ρ, c, h2) → sd_J mX5_mixed ((l, G), (2, 44), [.ref a0, .int a1], (sd_oI ρ, h2), cT) 2 [(0, .ref q.1), (1, .int q.2.1), (2, .int q.2.2)] [] h c) (k15 : Nat × Int32 × Int32 × Int32 → sd_M Int32) (Hk15 : ∀ (q : Nat × Int32 × Int32 × Int32) (h : sd_H) (c : Nat × Nat), k15 q h = some (ρ, c, h2) → sd_J mX5_mixed ((l, G), (2, 44), [.ref a0, .int a1], (sd_oI ρ, h2), cT) 15 [(0, .ref q.1), (1, .int q.2.1), (2, .int q.2.2.1), (3, .int q.2.2.2)] [] h c) (w0 : Nat) (w1 : Int32) (w2 : Int32) (w3 : Int32) (h : sd_H) (c : Nat × Nat) (hf : fX5_mixed_b15 G k2 k15 w0 w1 w2 w3 h = some (ρ, c, h2)) : sd_J mX5_mixed ((l, G), (2, 44), [.ref a0, .int a1], (sd_oI ρ, h2), cT) 15 [(0, .ref w0), (1, .int w1), (2, .int w2), (3, .int w3)] [] h c := by
  unfold fX5_mixed_b15 at hf
  refine sj_iload_n 3 dX5_mixed_15 rfl ?_
  refine sj_aload_n 0 dX5_mixed_16 rfl ?_
  refine sj_getR fdX5_20_4 hf dX5_mixed_17 (fun v3 hf => ?_)
  refine sj_getI fdX5_137_5 hf dX5_mixed_20 (fun v4 hf => ?_)
  refine sj_icge 73 hf dX5_mixed_23 (by decide) (fun g23 hf => ?_) (fun g23 hf => ?_)
  · refine sj_iincN 2 (fun x5 => [(2, .int x5), (0, .ref w0), (1, .int w1), (3, .int w3)]) 1 hf dX5_mixed_73 rfl (by decide) (by decide) (fun _ => rfl) (fun x5 hf => ?_)
    refine sj_goto 2 dX5_mixed_76 (by decide) ?_
    exact sj_loc [1, 2, 0] rfl (Hk2 (w0, w1, x5) _ _ hf)
  · refine sj_aload_n 0 dX5_mixed_26 rfl ?_
    refine sj_getR fdX5_20_4 hf dX5_mixed_27 (fun v6 hf => ?_)
    refine sj_getR fdX5_140_5 hf dX5_mixed_30 (fun v7 hf => ?_)
    refine sj_iload_n 2 dX5_mixed_33 rfl ?_
    refine sj_iald hf dX5_mixed_34 (fun v8 hf => ?_)
    refine sj_aload_n 0 dX5_mixed_35 rfl ?_
    refine sj_getR fdX5_20_4 hf dX5_mixed_36 (fun v9 hf => ?_)
    refine sj_getR fdX5_125_5 hf dX5_mixed_39 (fun v10 hf => ?_)
    refine sj_iload_n 3 dX5_mixed_42 rfl ?_
    refine sj_iald hf dX5_mixed_43 (fun v11 hf => ?_)
    refine sj_icge 67 hf dX5_mixed_44 (by decide) (fun g44 hf => ?_) (fun g44 hf => ?_)
    · refine sj_iincN 3 (fun x12 => [(3, .int x12), (0, .ref w0), (1, .int w1), (2, .int w2)]) 1 hf dX5_mixed_67 rfl (by decide) (by decide) (fun _ => rfl) (fun x12 hf => ?_)
      refine sj_goto 15 dX5_mixed_70 (by decide) ?_
      exact sj_loc [1, 2, 3, 0] rfl (Hk15 (w0, w1, w2, x12) _ _ hf)
    · refine sj_aload_n 0 dX5_mixed_47 rfl ?_
      refine sj_iload_n 1 dX5_mixed_48 rfl ?_
      refine sj_iload_n 2 dX5_mixed_49 rfl ?_
      obtain ⟨fs50, he50, hf⟩ := sd_isC_some hf
      refine sj_cI (rest := []) (fun _ _ _ e => sj_runV (n := 2) (As := [.int w1, .int w2]) (rest := []) (sX5_seenIn l G w0 w1 w2 h _ _ _ e) he50 rfl rfl rfl rfl q3287 q3289 qs98 q127 q3290 (by decide +kernel) rfl rfl ⟨Nat.le_of_ble_eq_true rfl, Nat.le_of_ble_eq_true rfl⟩ rfl (Nat.le_of_ble_eq_true rfl) dX5_mixed_50) hf (fun r13 h c hf => ?_)
      refine sj_ifeq 67 hf dX5_mixed_53 (by decide) (fun g53 hf => ?_) (fun g53 hf => ?_)
      · refine sj_iincN 3 (fun x14 => [(3, .int x14), (0, .ref w0), (1, .int w1), (2, .int w2)]) 1 hf dX5_mixed_67 rfl (by decide) (by decide) (fun _ => rfl) (fun x14 hf => ?_)
        refine sj_goto 15 dX5_mixed_70 (by decide) ?_
        exact sj_loc [1, 2, 3, 0] rfl (Hk15 (w0, w1, w2, x14) _ _ hf)
      · refine sj_aload_n 0 dX5_mixed_56 rfl ?_
        refine sj_iload_n 1 dX5_mixed_57 rfl ?_
        refine sj_iload_n 3 dX5_mixed_58 rfl ?_
        obtain ⟨fs59, he59, hf⟩ := sd_isC_some hf
        refine sj_cI (rest := []) (fun _ _ _ e => sj_runV (n := 2) (As := [.int w1, .int w3]) (rest := []) (sX5_seenIn l G w0 w1 w3 h _ _ _ e) he59 rfl rfl rfl rfl q3287 q3289 qs98 q127 q3290 (by decide +kernel) rfl rfl ⟨Nat.le_of_ble_eq_true rfl, Nat.le_of_ble_eq_true rfl⟩ rfl (Nat.le_of_ble_eq_true rfl) dX5_mixed_59) hf (fun r15 h c hf => ?_)
        refine sj_ifeq 67 hf dX5_mixed_62 (by decide) (fun g62 hf => ?_) (fun g62 hf => ?_)
        · refine sj_iincN 3 (fun x16 => [(3, .int x16), (0, .ref w0), (1, .int w1), (2, .int w2)]) 1 hf dX5_mixed_67 rfl (by decide) (by decide) (fun _ => rfl) (fun x16 hf => ?_)
          refine sj_goto 15 dX5_mixed_70 (by decide) ?_
          exact sj_loc [1, 2, 3, 0] rfl (Hk15 (w0, w1, w2, x16) _ _ hf)
        · refine sj_iconst (v := 1) dX5_mixed_65 (by decide) ?_
          exact sj_zretC (o := sd_oI) (ty := .boolean) rfl hf rfl rfl rfl dX5_mixed_66
theorem sX5_mixed_b15_loop (l : Launch) (G : sd_G) (a0 : Nat) (a1 : Int32) (ρ : Int32) (h2 : sd_H) (cT : Nat × Nat) (k2 : Nat × Int32 × Int32 → sd_M Int32) (Hk2 : ∀ (q : Nat × Int32 × Int32) (h : sd_H) (c : Nat × Nat), k2 q h = some (ρ, c, h2) → sd_J mX5_mixed ((l, G), (2, 44), [.ref a0, .int a1], (sd_oI ρ, h2), cT) 2 [(0, .ref q.1), (1, .int q.2.1), (2, .int q.2.2)] [] h c) (n : Nat) : ∀ (q : Nat × Int32 × Int32 × Int32) (h : sd_H) (c : Nat × Nat), sd_loop (fun k s => fX5_mixed_b15 G k2 k s.1 s.2.1 s.2.2.1 s.2.2.2) n q h = some (ρ, c, h2) → sd_J mX5_mixed ((l, G), (2, 44), [.ref a0, .int a1], (sd_oI ρ, h2), cT) 15 [(0, .ref q.1), (1, .int q.2.1), (2, .int q.2.2.1), (3, .int q.2.2.2)] [] h c := by
  induction n with
  | zero => intro q h c hf; cases hf
  | succ n ih => intro q h c hf; exact sX5_mixed_b15 l G a0 a1 ρ h2 cT k2 Hk2 _ ih _ _ _ _ _ _ hf
def fX5_mixed_b2 (G : sd_G) (k2 : Nat × Int32 × Int32 → sd_M Int32) (w0 : Nat) (w1 : Int32) (w2 : Int32) : sd_M Int32 :=
  sd_bnd (sd_getR G 4 4 w0) fun v1 =>
  sd_bnd (sd_getI G 5 2 v1) fun v2 =>
  if v2 ≤ w2 then (
    sd_ret 0)
  else (
    sd_loop (fun k s => fX5_mixed_b15 G k2 k s.1 s.2.1 s.2.2.1 s.2.2.2) sd_FU (w0, w1, w2, 0))
set_option maxHeartbeats 4000000 in
theorem sX5_mixed_b2 (l : Launch) (G : sd_G) (a0 : Nat) (a1 : Int32) (ρ : Int32) (h2 : sd_H) (cT : Nat × Nat) (k2 : Nat × Int32 × Int32 → sd_M Int32) (Hk2 : ∀ (q : Nat × Int32 × Int32) (h : sd_H) (c : Nat × Nat), k2 q h = some (ρ, c, h2) → sd_J mX5_mixed ((l, G), (2, 44), [.ref a0, .int a1], (sd_oI ρ, h2), cT) 2 [(0, .ref q.1), (1, .int q.2.1), (2, .int q.2.2)] [] h c) (w0 : Nat) (w1 : Int32) (w2 : Int32) (h : sd_H) (c : Nat × Nat) (hf : fX5_mixed_b2 G k2 w0 w1 w2 h = some (ρ, c, h2)) : sd_J mX5_mixed ((l, G), (2, 44), [.ref a0, .int a1], (sd_oI ρ, h2), cT) 2 [(0, .ref w0), (1, .int w1), (2, .int w2)] [] h c := by
  unfold fX5_mixed_b2 at hf
  refine sj_iload_n 2 dX5_mixed_2 rfl ?_
  refine sj_aload_n 0 dX5_mixed_3 rfl ?_
  refine sj_getR fdX5_20_4 hf dX5_mixed_4 (fun v1 hf => ?_)
  refine sj_getI fdX5_137_5 hf dX5_mixed_7 (fun v2 hf => ?_)
  refine sj_icge 79 hf dX5_mixed_10 (by decide) (fun g10 hf => ?_) (fun g10 hf => ?_)
  · refine sj_iconst (v := 0) dX5_mixed_79 (by decide) ?_
    exact sj_zretC (o := sd_oI) (ty := .boolean) rfl hf rfl rfl rfl dX5_mixed_80
  · refine sj_iconst (v := 0) dX5_mixed_13 (by decide) ?_
    refine sj_istore_n [(3, .int 0), (0, .ref w0), (1, .int w1), (2, .int w2)] dX5_mixed_14 (by decide) rfl ?_
    exact sj_loc [1, 2, 3, 0] rfl (sX5_mixed_b15_loop l G a0 a1 ρ h2 cT k2 Hk2 sd_FU (w0, w1, w2, 0) _ _ hf)
theorem sX5_mixed_b2_loop (l : Launch) (G : sd_G) (a0 : Nat) (a1 : Int32) (ρ : Int32) (h2 : sd_H) (cT : Nat × Nat) (n : Nat) : ∀ (q : Nat × Int32 × Int32) (h : sd_H) (c : Nat × Nat), sd_loop (fun k s => fX5_mixed_b2 G k s.1 s.2.1 s.2.2) n q h = some (ρ, c, h2) → sd_J mX5_mixed ((l, G), (2, 44), [.ref a0, .int a1], (sd_oI ρ, h2), cT) 2 [(0, .ref q.1), (1, .int q.2.1), (2, .int q.2.2)] [] h c := by
  induction n with
  | zero => intro q h c hf; cases hf
  | succ n ih => intro q h c hf; exact sX5_mixed_b2 l G a0 a1 ρ h2 cT _ ih _ _ _ _ _ hf
def fX5_mixed (G : sd_G) (a0 : Nat) (a1 : Int32) : sd_M Int32 :=
  sd_loop (fun k s => fX5_mixed_b2 G k s.1 s.2.1 s.2.2) sd_FU (a0, a1, 0)
set_option maxHeartbeats 4000000 in
theorem sX5_mixed (l : Launch) (G : sd_G) (a0 : Nat) (a1 : Int32) (h : sd_H) (ρ : Int32) (cT : Nat × Nat) (h2 : sd_H) (hf : fX5_mixed G a0 a1 h = some (ρ, cT, h2)) : sd_Met mX5_mixed ((l, G), (2, 44), [.ref a0, .int a1], (sd_oI ρ, h2), cT) h := by
  refine sd_entry (plainFor_of_name rfl) rfl (Nat.le_of_ble_eq_true rfl) ?_
  show sd_J mX5_mixed ((l, G), (2, 44), [.ref a0, .int a1], (sd_oI ρ, h2), cT) 0 [(0, .ref a0), (1, .int a1)] [] h cT
  unfold fX5_mixed at hf
  refine sj_iconst (v := 0) dX5_mixed_0 (by decide) ?_
  refine sj_istore_n [(2, .int 0), (0, .ref a0), (1, .int a1)] dX5_mixed_1 (by decide) rfl ?_
  exact sj_loc [1, 2, 0] rfl (sX5_mixed_b2_loop l G a0 a1 ρ h2 cT sd_FU (a0, a1, 0) _ _ hf)
/-! SofaDigModel.isMixed(I)Z -/
abbrev cX5_isMixed : ByteArray := prog_46_method_114_code
def yX5_isMixed : MethodName := ⟨RX5, "isMixed", "(I)Z"⟩
def dkwX5_isMixed_1 : List UInt8 := [182, 1, 148, 172]
abbrev dktX5_isMixed_1 : List UInt8 := dkwX5_isMixed_1 ++ []
def dkwX5_isMixed_0 : List UInt8 := [42, 3, 181, 0, 58, 42, 27, 182, 1, 164, 153, 0, 11, 42, 27, 182, 1, 170, 167, 0, 8, 42, 4]
abbrev dktX5_isMixed_0 : List UInt8 := dkwX5_isMixed_0 ++ dktX5_isMixed_1
theorem dksX5_isMixed_0 : cX5_isMixed.data.toList.drop 0 = dktX5_isMixed_0 := by decide +kernel
theorem dksX5_isMixed_1 : cX5_isMixed.data.toList.drop 23 = dktX5_isMixed_1 := dk_seg dksX5_isMixed_0 23 rfl rfl
theorem dX5_isMixed_0 : decode cX5_isMixed 0 = .ok (.aload_n 0, 1) := dk_42 (dk_at dksX5_isMixed_0 0 rfl rfl)
theorem dX5_isMixed_1 : decode cX5_isMixed 1 = .ok (.iconst 0, 1) := dk_3 (dk_at dksX5_isMixed_0 1 rfl rfl)
theorem dX5_isMixed_2 : decode cX5_isMixed 2 = .ok (.putfield 58, 3) := dk_181 0 58 (dk_at dksX5_isMixed_0 2 rfl rfl)
theorem dX5_isMixed_5 : decode cX5_isMixed 5 = .ok (.aload_n 0, 1) := dk_42 (dk_at dksX5_isMixed_0 5 rfl rfl)
theorem dX5_isMixed_6 : decode cX5_isMixed 6 = .ok (.iload_n 1, 1) := dk_27 (dk_at dksX5_isMixed_0 6 rfl rfl)
theorem dX5_isMixed_7 : decode cX5_isMixed 7 = .ok (.invokevirtual 420, 3) := dk_182 1 164 (dk_at dksX5_isMixed_0 7 rfl rfl)
theorem dX5_isMixed_10 : decode cX5_isMixed 10 = .ok (.ifCond .eq 11, 3) := dk_153 0 11 (dk_at dksX5_isMixed_0 10 rfl rfl)
theorem dX5_isMixed_13 : decode cX5_isMixed 13 = .ok (.aload_n 0, 1) := dk_42 (dk_at dksX5_isMixed_0 13 rfl rfl)
theorem dX5_isMixed_14 : decode cX5_isMixed 14 = .ok (.iload_n 1, 1) := dk_27 (dk_at dksX5_isMixed_0 14 rfl rfl)
theorem dX5_isMixed_15 : decode cX5_isMixed 15 = .ok (.invokevirtual 426, 3) := dk_182 1 170 (dk_at dksX5_isMixed_0 15 rfl rfl)
theorem dX5_isMixed_18 : decode cX5_isMixed 18 = .ok (.goto 8, 3) := dk_167 0 8 (dk_at dksX5_isMixed_0 18 rfl rfl)
theorem dX5_isMixed_21 : decode cX5_isMixed 21 = .ok (.aload_n 0, 1) := dk_42 (dk_at dksX5_isMixed_0 21 rfl rfl)
theorem dX5_isMixed_22 : decode cX5_isMixed 22 = .ok (.iconst 1, 1) := dk_4 (dk_at dksX5_isMixed_0 22 rfl rfl)
theorem dX5_isMixed_23 : decode cX5_isMixed 23 = .ok (.invokevirtual 404, 3) := dk_182 1 148 (dk_at dksX5_isMixed_1 0 rfl rfl)
theorem dX5_isMixed_26 : decode cX5_isMixed 26 = .ok (.ireturn, 1) := dk_172 (dk_at dksX5_isMixed_1 3 rfl rfl)
abbrev mX5_isMixed : sd_Y := (yX5_isMixed, cX5_isMixed, 2, some (.boolean), none)
def fX5_isMixed (G : sd_G) (a0 : Nat) (a1 : Int32) : sd_M Int32 :=
  sd_bnd (sd_put 4 0 .int a0 (.int 0)) fun _ =>
  sd_bnd (sd_isC G 4 a0) fun _ =>
  sd_bnd (fX5_isStratum G a0 a1) fun r1 =>
  if r1 = 0 then (
    sd_bnd (sd_isC G 4 a0) fun _ =>
    sd_bnd (fX5_isNot G a0 1) fun r2 =>
    sd_retN .boolean r2)
  else (
    sd_bnd (sd_isC G 4 a0) fun _ =>
    sd_bnd (fX5_mixed G a0 a1) fun r3 =>
    sd_retN .boolean r3)
set_option maxHeartbeats 4000000 in
theorem sX5_isMixed (l : Launch) (G : sd_G) (a0 : Nat) (a1 : Int32) (h : sd_H) (ρ : Int32) (cT : Nat × Nat) (h2 : sd_H) (hf : fX5_isMixed G a0 a1 h = some (ρ, cT, h2)) : sd_Met mX5_isMixed ((l, G), (3, 67), [.ref a0, .int a1], (sd_oI ρ, h2), cT) h := by
  refine sd_entry (plainFor_of_name rfl) rfl (Nat.le_of_ble_eq_true rfl) ?_
  show sd_J mX5_isMixed ((l, G), (3, 67), [.ref a0, .int a1], (sd_oI ρ, h2), cT) 0 [(0, .ref a0), (1, .int a1)] [] h cT
  unfold fX5_isMixed at hf
  refine sj_aload_n 0 dX5_isMixed_0 rfl ?_
  refine sj_iconst (v := 0) dX5_isMixed_1 (by decide) ?_
  refine sj_put (fpX5_58_4 _ _) hf dX5_isMixed_2 (fun h hf => ?_)
  refine sj_aload_n 0 dX5_isMixed_5 rfl ?_
  refine sj_iload_n 1 dX5_isMixed_6 rfl ?_
  obtain ⟨fs7, he7, hf⟩ := sd_isC_some hf
  refine sj_cI (rest := []) (fun _ _ _ e => sj_runV (n := 1) (As := [.int a1]) (rest := []) (sX5_isStratum l G a0 a1 h _ _ _ e) he7 rfl rfl rfl rfl q3274 q3276 qs96 q127 q3277 (by decide +kernel) rfl rfl ⟨Nat.le_of_ble_eq_true rfl, Nat.le_of_ble_eq_true rfl⟩ rfl (Nat.le_of_ble_eq_true rfl) dX5_isMixed_7) hf (fun r1 h c hf => ?_)
  refine sj_ifeq 21 hf dX5_isMixed_10 (by decide) (fun g10 hf => ?_) (fun g10 hf => ?_)
  · refine sj_aload_n 0 dX5_isMixed_21 rfl ?_
    refine sj_iconst (v := 1) dX5_isMixed_22 (by decide) ?_
    obtain ⟨fs23, he23, hf⟩ := sd_isC_some hf
    refine sj_cI (rest := []) (fun _ _ _ e => sj_runV (n := 1) (As := [.int 1]) (rest := []) (sX5_isNot l G a0 1 h _ _ _ e) he23 rfl rfl rfl rfl q3190 q3192 qs87 q127 q3193 (by decide +kernel) rfl rfl ⟨Nat.le_of_ble_eq_true rfl, Nat.le_of_ble_eq_true rfl⟩ rfl (Nat.le_of_ble_eq_true rfl) dX5_isMixed_23) hf (fun r2 h c hf => ?_)
    exact sj_zret hf rfl rfl dX5_isMixed_26
  · refine sj_aload_n 0 dX5_isMixed_13 rfl ?_
    refine sj_iload_n 1 dX5_isMixed_14 rfl ?_
    obtain ⟨fs15, he15, hf⟩ := sd_isC_some hf
    refine sj_cI (rest := []) (fun _ _ _ e => sj_runV (n := 1) (As := [.int a1]) (rest := []) (sX5_mixed l G a0 a1 h _ _ _ e) he15 rfl rfl rfl rfl q3295 q3297 qs99 q127 q3298 (by decide +kernel) rfl rfl ⟨Nat.le_of_ble_eq_true rfl, Nat.le_of_ble_eq_true rfl⟩ rfl (Nat.le_of_ble_eq_true rfl) dX5_isMixed_15) hf (fun r3 h c hf => ?_)
    refine sj_goto 26 dX5_isMixed_18 (by decide) ?_
    exact sj_zret hf rfl rfl dX5_isMixed_26
/-! SofaDigModel.canSlide(II)Z -/
abbrev cX5_canSlide : ByteArray := prog_46_method_17_code
def yX5_canSlide : MethodName := ⟨RX5, "canSlide", "(II)Z"⟩
def dkwX5_canSlide_2 : List UInt8 := [167, 0, 4, 3, 172]
abbrev dktX5_canSlide_2 : List UInt8 := dkwX5_canSlide_2 ++ []
def dkwX5_canSlide_1 : List UInt8 := [27, 182, 0, 82, 154, 0, 23, 42, 180, 0, 20, 180, 0, 85, 42, 27, 182, 0, 89, 51, 154, 0, 7, 4]
abbrev dktX5_canSlide_1 : List UInt8 := dkwX5_canSlide_1 ++ dktX5_canSlide_2
def dkwX5_canSlide_0 : List UInt8 := [42, 27, 182, 0, 78, 153, 0, 46, 42, 27, 182, 0, 74, 42, 28, 182, 0, 74, 6, 96, 164, 0, 31, 42]
abbrev dktX5_canSlide_0 : List UInt8 := dkwX5_canSlide_0 ++ dktX5_canSlide_1
theorem dksX5_canSlide_0 : cX5_canSlide.data.toList.drop 0 = dktX5_canSlide_0 := by decide +kernel
theorem dksX5_canSlide_1 : cX5_canSlide.data.toList.drop 24 = dktX5_canSlide_1 := dk_seg dksX5_canSlide_0 24 rfl rfl
theorem dksX5_canSlide_2 : cX5_canSlide.data.toList.drop 48 = dktX5_canSlide_2 := dk_seg dksX5_canSlide_1 24 rfl rfl
theorem dX5_canSlide_0 : decode cX5_canSlide 0 = .ok (.aload_n 0, 1) := dk_42 (dk_at dksX5_canSlide_0 0 rfl rfl)
theorem dX5_canSlide_1 : decode cX5_canSlide 1 = .ok (.iload_n 1, 1) := dk_27 (dk_at dksX5_canSlide_0 1 rfl rfl)
theorem dX5_canSlide_2 : decode cX5_canSlide 2 = .ok (.invokevirtual 78, 3) := dk_182 0 78 (dk_at dksX5_canSlide_0 2 rfl rfl)
theorem dX5_canSlide_5 : decode cX5_canSlide 5 = .ok (.ifCond .eq 46, 3) := dk_153 0 46 (dk_at dksX5_canSlide_0 5 rfl rfl)
theorem dX5_canSlide_8 : decode cX5_canSlide 8 = .ok (.aload_n 0, 1) := dk_42 (dk_at dksX5_canSlide_0 8 rfl rfl)
theorem dX5_canSlide_9 : decode cX5_canSlide 9 = .ok (.iload_n 1, 1) := dk_27 (dk_at dksX5_canSlide_0 9 rfl rfl)
theorem dX5_canSlide_10 : decode cX5_canSlide 10 = .ok (.invokevirtual 74, 3) := dk_182 0 74 (dk_at dksX5_canSlide_0 10 rfl rfl)
theorem dX5_canSlide_13 : decode cX5_canSlide 13 = .ok (.aload_n 0, 1) := dk_42 (dk_at dksX5_canSlide_0 13 rfl rfl)
theorem dX5_canSlide_14 : decode cX5_canSlide 14 = .ok (.iload_n 2, 1) := dk_28 (dk_at dksX5_canSlide_0 14 rfl rfl)
theorem dX5_canSlide_15 : decode cX5_canSlide 15 = .ok (.invokevirtual 74, 3) := dk_182 0 74 (dk_at dksX5_canSlide_0 15 rfl rfl)
theorem dX5_canSlide_18 : decode cX5_canSlide 18 = .ok (.iconst 3, 1) := dk_6 (dk_at dksX5_canSlide_0 18 rfl rfl)
theorem dX5_canSlide_19 : decode cX5_canSlide 19 = .ok (.iadd, 1) := dk_96 (dk_at dksX5_canSlide_0 19 rfl rfl)
theorem dX5_canSlide_20 : decode cX5_canSlide 20 = .ok (.if_icmp .le 31, 3) := dk_164 0 31 (dk_at dksX5_canSlide_0 20 rfl rfl)
theorem dX5_canSlide_23 : decode cX5_canSlide 23 = .ok (.aload_n 0, 1) := dk_42 (dk_at dksX5_canSlide_0 23 rfl rfl)
theorem dX5_canSlide_24 : decode cX5_canSlide 24 = .ok (.iload_n 1, 1) := dk_27 (dk_at dksX5_canSlide_1 0 rfl rfl)
theorem dX5_canSlide_25 : decode cX5_canSlide 25 = .ok (.invokevirtual 82, 3) := dk_182 0 82 (dk_at dksX5_canSlide_1 1 rfl rfl)
theorem dX5_canSlide_28 : decode cX5_canSlide 28 = .ok (.ifCond .ne 23, 3) := dk_154 0 23 (dk_at dksX5_canSlide_1 4 rfl rfl)
theorem dX5_canSlide_31 : decode cX5_canSlide 31 = .ok (.aload_n 0, 1) := dk_42 (dk_at dksX5_canSlide_1 7 rfl rfl)
theorem dX5_canSlide_32 : decode cX5_canSlide 32 = .ok (.getfield 20, 3) := dk_180 0 20 (dk_at dksX5_canSlide_1 8 rfl rfl)
theorem dX5_canSlide_35 : decode cX5_canSlide 35 = .ok (.getfield 85, 3) := dk_180 0 85 (dk_at dksX5_canSlide_1 11 rfl rfl)
theorem dX5_canSlide_38 : decode cX5_canSlide 38 = .ok (.aload_n 0, 1) := dk_42 (dk_at dksX5_canSlide_1 14 rfl rfl)
theorem dX5_canSlide_39 : decode cX5_canSlide 39 = .ok (.iload_n 1, 1) := dk_27 (dk_at dksX5_canSlide_1 15 rfl rfl)
theorem dX5_canSlide_40 : decode cX5_canSlide 40 = .ok (.invokevirtual 89, 3) := dk_182 0 89 (dk_at dksX5_canSlide_1 16 rfl rfl)
theorem dX5_canSlide_43 : decode cX5_canSlide 43 = .ok (.baload, 1) := dk_51 (dk_at dksX5_canSlide_1 19 rfl rfl)
theorem dX5_canSlide_44 : decode cX5_canSlide 44 = .ok (.ifCond .ne 7, 3) := dk_154 0 7 (dk_at dksX5_canSlide_1 20 rfl rfl)
theorem dX5_canSlide_47 : decode cX5_canSlide 47 = .ok (.iconst 1, 1) := dk_4 (dk_at dksX5_canSlide_1 23 rfl rfl)
theorem dX5_canSlide_48 : decode cX5_canSlide 48 = .ok (.goto 4, 3) := dk_167 0 4 (dk_at dksX5_canSlide_2 0 rfl rfl)
theorem dX5_canSlide_51 : decode cX5_canSlide 51 = .ok (.iconst 0, 1) := dk_3 (dk_at dksX5_canSlide_2 3 rfl rfl)
theorem dX5_canSlide_52 : decode cX5_canSlide 52 = .ok (.ireturn, 1) := dk_172 (dk_at dksX5_canSlide_2 4 rfl rfl)
abbrev mX5_canSlide : sd_Y := (yX5_canSlide, cX5_canSlide, 3, some (.boolean), none)
def fX5_canSlide (G : sd_G) (a0 : Nat) (a1 : Int32) (a2 : Int32) : sd_M Int32 :=
  sd_bnd (sd_isC G 4 a0) fun _ =>
  sd_bnd (fX5_isSeat G a0 a1) fun r1 =>
  if r1 = 0 then (
    sd_ret 0)
  else (
    sd_bnd (sd_isC G 4 a0) fun _ =>
    sd_bnd (fX5_tall G a0 a1) fun r2 =>
    sd_bnd (sd_isC G 4 a0) fun _ =>
    sd_bnd (fX5_tall G a0 a2) fun r3 =>
    if r2 ≤ (r3 + 3) then (
      sd_ret 0)
    else (
      sd_bnd (sd_isC G 4 a0) fun _ =>
      sd_bnd (fX5_hasProp G a0 a1) fun r4 =>
      if r4 = 0 then (
        sd_bnd (sd_getR G 4 4 a0) fun v5 =>
        sd_bnd (sd_getR G 5 11 v5) fun v6 =>
        sd_bnd (sd_isC G 4 a0) fun _ =>
        sd_bnd (fX5_top G a0 a1) fun r7 =>
        sd_bnd (sd_aldI G 3 v6 r7) fun v8 =>
        if v8 = 0 then (
          sd_ret 1)
        else (
          sd_ret 0))
      else (
        sd_ret 0)))
set_option maxHeartbeats 4000000 in
theorem sX5_canSlide (l : Launch) (G : sd_G) (a0 : Nat) (a1 : Int32) (a2 : Int32) (h : sd_H) (ρ : Int32) (cT : Nat × Nat) (h2 : sd_H) (hf : fX5_canSlide G a0 a1 a2 h = some (ρ, cT, h2)) : sd_Met mX5_canSlide ((l, G), (2, 43), [.ref a0, .int a1, .int a2], (sd_oI ρ, h2), cT) h := by
  refine sd_entry (plainFor_of_name rfl) rfl (Nat.le_of_ble_eq_true rfl) ?_
  show sd_J mX5_canSlide ((l, G), (2, 43), [.ref a0, .int a1, .int a2], (sd_oI ρ, h2), cT) 0 [(0, .ref a0), (1, .int a1), (2, .int a2)] [] h cT
  unfold fX5_canSlide at hf
  refine sj_aload_n 0 dX5_canSlide_0 rfl ?_
  refine sj_iload_n 1 dX5_canSlide_1 rfl ?_
  obtain ⟨fs2, he2, hf⟩ := sd_isC_some hf
  refine sj_cI (rest := []) (fun _ _ _ e => sj_runV (n := 1) (As := [.int a1]) (rest := []) (sX5_isSeat l G a0 a1 h _ _ _ e) he2 rfl rfl rfl rfl q3174 q3176 qs84 q127 q3177 (by decide +kernel) rfl rfl ⟨Nat.le_of_ble_eq_true rfl, Nat.le_of_ble_eq_true rfl⟩ rfl (Nat.le_of_ble_eq_true rfl) dX5_canSlide_2) hf (fun r1 h c hf => ?_)
  refine sj_ifeq 51 hf dX5_canSlide_5 (by decide) (fun g5 hf => ?_) (fun g5 hf => ?_)
  · refine sj_iconst (v := 0) dX5_canSlide_51 (by decide) ?_
    exact sj_zretC (o := sd_oI) (ty := .boolean) rfl hf rfl rfl rfl dX5_canSlide_52
  · refine sj_aload_n 0 dX5_canSlide_8 rfl ?_
    refine sj_iload_n 1 dX5_canSlide_9 rfl ?_
    obtain ⟨fs10, he10, hf⟩ := sd_isC_some hf
    refine sj_cI (rest := []) (fun _ _ _ e => sj_runV (n := 1) (As := [.int a1]) (rest := []) (sX5_tall l G a0 a1 h _ _ _ e) he10 rfl rfl rfl rfl q3178 q3180 qs85 q127 q3181 (by decide +kernel) rfl rfl ⟨Nat.le_of_ble_eq_true rfl, Nat.le_of_ble_eq_true rfl⟩ rfl (Nat.le_of_ble_eq_true rfl) dX5_canSlide_10) hf (fun r2 h c hf => ?_)
    refine sj_aload_n 0 dX5_canSlide_13 rfl ?_
    refine sj_iload_n 2 dX5_canSlide_14 rfl ?_
    obtain ⟨fs15, he15, hf⟩ := sd_isC_some hf
    refine sj_cI (rest := [.int r2]) (fun _ _ _ e => sj_runV (n := 1) (As := [.int a2]) (rest := [.int r2]) (sX5_tall l G a0 a2 h _ _ _ e) he15 rfl rfl rfl rfl q3178 q3180 qs85 q127 q3181 (by decide +kernel) rfl rfl ⟨Nat.le_of_ble_eq_true rfl, Nat.le_of_ble_eq_true rfl⟩ rfl (Nat.le_of_ble_eq_true rfl) dX5_canSlide_15) hf (fun r3 h c hf => ?_)
    refine sj_iconst (v := 3) dX5_canSlide_18 (by decide) ?_
    refine sj_iadd dX5_canSlide_19 ?_
    refine sj_icle 51 hf dX5_canSlide_20 (by decide) (fun g20 hf => ?_) (fun g20 hf => ?_)
    · refine sj_iconst (v := 0) dX5_canSlide_51 (by decide) ?_
      exact sj_zretC (o := sd_oI) (ty := .boolean) rfl hf rfl rfl rfl dX5_canSlide_52
    · refine sj_aload_n 0 dX5_canSlide_23 rfl ?_
      refine sj_iload_n 1 dX5_canSlide_24 rfl ?_
      obtain ⟨fs25, he25, hf⟩ := sd_isC_some hf
      refine sj_cI (rest := []) (fun _ _ _ e => sj_runV (n := 1) (As := [.int a1]) (rest := []) (sX5_hasProp l G a0 a1 h _ _ _ e) he25 rfl rfl rfl rfl q3186 q3188 qs86 q127 q3189 (by decide +kernel) rfl rfl ⟨Nat.le_of_ble_eq_true rfl, Nat.le_of_ble_eq_true rfl⟩ rfl (Nat.le_of_ble_eq_true rfl) dX5_canSlide_25) hf (fun r4 h c hf => ?_)
      refine sj_ifne 51 hf dX5_canSlide_28 (by decide) (fun g28 hf => ?_) (fun g28 hf => ?_)
      · refine sj_iconst (v := 0) dX5_canSlide_51 (by decide) ?_
        exact sj_zretC (o := sd_oI) (ty := .boolean) rfl hf rfl rfl rfl dX5_canSlide_52
      · refine sj_aload_n 0 dX5_canSlide_31 rfl ?_
        refine sj_getR fdX5_20_4 hf dX5_canSlide_32 (fun v5 hf => ?_)
        refine sj_getR fdX5_85_5 hf dX5_canSlide_35 (fun v6 hf => ?_)
        refine sj_aload_n 0 dX5_canSlide_38 rfl ?_
        refine sj_iload_n 1 dX5_canSlide_39 rfl ?_
        obtain ⟨fs40, he40, hf⟩ := sd_isC_some hf
        refine sj_cI (rest := [.ref v6]) (fun _ _ _ e => sj_runV (n := 1) (As := [.int a1]) (rest := [.ref v6]) (sX5_top l G a0 a1 h _ _ _ e) he40 rfl rfl rfl rfl q3202 q3204 qs89 q127 q3205 (by decide +kernel) rfl rfl ⟨Nat.le_of_ble_eq_true rfl, Nat.le_of_ble_eq_true rfl⟩ rfl (Nat.le_of_ble_eq_true rfl) dX5_canSlide_40) hf (fun r7 h c hf => ?_)
        refine sj_zald hf dX5_canSlide_43 (fun v8 hf => ?_)
        refine sj_ifne 51 hf dX5_canSlide_44 (by decide) (fun g44 hf => ?_) (fun g44 hf => ?_)
        · refine sj_iconst (v := 0) dX5_canSlide_51 (by decide) ?_
          exact sj_zretC (o := sd_oI) (ty := .boolean) rfl hf rfl rfl rfl dX5_canSlide_52
        · refine sj_iconst (v := 1) dX5_canSlide_47 (by decide) ?_
          refine sj_goto 52 dX5_canSlide_48 (by decide) ?_
          exact sj_zretC (o := sd_oI) (ty := .boolean) rfl hf rfl rfl rfl dX5_canSlide_52
/-! SofaDigModel.next()I -/
abbrev cX5_next : ByteArray := prog_46_method_18_code
def yX5_next : MethodName := ⟨RX5, "next", "()I"⟩
def dkwX5_next_1 : List UInt8 := [42, 27, 4, 96, 27, 182, 0, 92, 153, 0, 5, 27, 172, 132, 1, 1, 167, 255, 218, 2, 172]
abbrev dktX5_next_1 : List UInt8 := dkwX5_next_1 ++ []
def dkwX5_next_0 : List UInt8 := [3, 60, 27, 42, 180, 0, 20, 180, 0, 52, 162, 0, 33, 42, 27, 4, 100, 27, 182, 0, 92, 154, 0, 14]
abbrev dktX5_next_0 : List UInt8 := dkwX5_next_0 ++ dktX5_next_1
theorem dksX5_next_0 : cX5_next.data.toList.drop 0 = dktX5_next_0 := by decide +kernel
theorem dksX5_next_1 : cX5_next.data.toList.drop 24 = dktX5_next_1 := dk_seg dksX5_next_0 24 rfl rfl
theorem dX5_next_0 : decode cX5_next 0 = .ok (.iconst 0, 1) := dk_3 (dk_at dksX5_next_0 0 rfl rfl)
theorem dX5_next_1 : decode cX5_next 1 = .ok (.istore_n 1, 1) := dk_60 (dk_at dksX5_next_0 1 rfl rfl)
theorem dX5_next_2 : decode cX5_next 2 = .ok (.iload_n 1, 1) := dk_27 (dk_at dksX5_next_0 2 rfl rfl)
theorem dX5_next_3 : decode cX5_next 3 = .ok (.aload_n 0, 1) := dk_42 (dk_at dksX5_next_0 3 rfl rfl)
theorem dX5_next_4 : decode cX5_next 4 = .ok (.getfield 20, 3) := dk_180 0 20 (dk_at dksX5_next_0 4 rfl rfl)
theorem dX5_next_7 : decode cX5_next 7 = .ok (.getfield 52, 3) := dk_180 0 52 (dk_at dksX5_next_0 7 rfl rfl)
theorem dX5_next_10 : decode cX5_next 10 = .ok (.if_icmp .ge 33, 3) := dk_162 0 33 (dk_at dksX5_next_0 10 rfl rfl)
theorem dX5_next_13 : decode cX5_next 13 = .ok (.aload_n 0, 1) := dk_42 (dk_at dksX5_next_0 13 rfl rfl)
theorem dX5_next_14 : decode cX5_next 14 = .ok (.iload_n 1, 1) := dk_27 (dk_at dksX5_next_0 14 rfl rfl)
theorem dX5_next_15 : decode cX5_next 15 = .ok (.iconst 1, 1) := dk_4 (dk_at dksX5_next_0 15 rfl rfl)
theorem dX5_next_16 : decode cX5_next 16 = .ok (.isub, 1) := dk_100 (dk_at dksX5_next_0 16 rfl rfl)
theorem dX5_next_17 : decode cX5_next 17 = .ok (.iload_n 1, 1) := dk_27 (dk_at dksX5_next_0 17 rfl rfl)
theorem dX5_next_18 : decode cX5_next 18 = .ok (.invokevirtual 92, 3) := dk_182 0 92 (dk_at dksX5_next_0 18 rfl rfl)
theorem dX5_next_21 : decode cX5_next 21 = .ok (.ifCond .ne 14, 3) := dk_154 0 14 (dk_at dksX5_next_0 21 rfl rfl)
theorem dX5_next_24 : decode cX5_next 24 = .ok (.aload_n 0, 1) := dk_42 (dk_at dksX5_next_1 0 rfl rfl)
theorem dX5_next_25 : decode cX5_next 25 = .ok (.iload_n 1, 1) := dk_27 (dk_at dksX5_next_1 1 rfl rfl)
theorem dX5_next_26 : decode cX5_next 26 = .ok (.iconst 1, 1) := dk_4 (dk_at dksX5_next_1 2 rfl rfl)
theorem dX5_next_27 : decode cX5_next 27 = .ok (.iadd, 1) := dk_96 (dk_at dksX5_next_1 3 rfl rfl)
theorem dX5_next_28 : decode cX5_next 28 = .ok (.iload_n 1, 1) := dk_27 (dk_at dksX5_next_1 4 rfl rfl)
theorem dX5_next_29 : decode cX5_next 29 = .ok (.invokevirtual 92, 3) := dk_182 0 92 (dk_at dksX5_next_1 5 rfl rfl)
theorem dX5_next_32 : decode cX5_next 32 = .ok (.ifCond .eq 5, 3) := dk_153 0 5 (dk_at dksX5_next_1 8 rfl rfl)
theorem dX5_next_35 : decode cX5_next 35 = .ok (.iload_n 1, 1) := dk_27 (dk_at dksX5_next_1 11 rfl rfl)
theorem dX5_next_36 : decode cX5_next 36 = .ok (.ireturn, 1) := dk_172 (dk_at dksX5_next_1 12 rfl rfl)
theorem dX5_next_37 : decode cX5_next 37 = .ok (.iinc 1 1, 3) := dk_132 1 1 (dk_at dksX5_next_1 13 rfl rfl)
theorem dX5_next_40 : decode cX5_next 40 = .ok (.goto (-38), 3) := dk_167 255 218 (dk_at dksX5_next_1 16 rfl rfl)
theorem dX5_next_43 : decode cX5_next 43 = .ok (.iconst (-1), 1) := dk_2 (dk_at dksX5_next_1 19 rfl rfl)
theorem dX5_next_44 : decode cX5_next 44 = .ok (.ireturn, 1) := dk_172 (dk_at dksX5_next_1 20 rfl rfl)
abbrev mX5_next : sd_Y := (yX5_next, cX5_next, 2, some (.int), none)
def fX5_next_b2 (G : sd_G) (k2 : Nat × Int32 → sd_M Int32) (w0 : Nat) (w1 : Int32) : sd_M Int32 :=
  sd_bnd (sd_getR G 4 4 w0) fun v1 =>
  sd_bnd (sd_getI G 5 0 v1) fun v2 =>
  if v2 ≤ w1 then (
    sd_ret (-1))
  else (
    sd_bnd (sd_isC G 4 w0) fun _ =>
    sd_bnd (fX5_canSlide G w0 (w1 - 1) w1) fun r3 =>
    if r3 = 0 then (
      sd_bnd (sd_isC G 4 w0) fun _ =>
      sd_bnd (fX5_canSlide G w0 (w1 + 1) w1) fun r4 =>
      if r4 = 0 then (
        sd_bnd (sd_ret (w1 + 1)) fun x5 =>
        k2 (w0, x5))
      else (
        sd_ret w1))
    else (
      sd_ret w1))
set_option maxHeartbeats 4000000 in
theorem sX5_next_b2 (l : Launch) (G : sd_G) (a0 : Nat) (ρ : Int32) (h2 : sd_H) (cT : Nat × Nat) (k2 : Nat × Int32 → sd_M Int32) (Hk2 : ∀ (q : Nat × Int32) (h : sd_H) (c : Nat × Nat), k2 q h = some (ρ, c, h2) → sd_J mX5_next ((l, G), (3, 65), [.ref a0], (sd_oI ρ, h2), cT) 2 [(0, .ref q.1), (1, .int q.2)] [] h c) (w0 : Nat) (w1 : Int32) (h : sd_H) (c : Nat × Nat) (hf : fX5_next_b2 G k2 w0 w1 h = some (ρ, c, h2)) : sd_J mX5_next ((l, G), (3, 65), [.ref a0], (sd_oI ρ, h2), cT) 2 [(0, .ref w0), (1, .int w1)] [] h c := by
  unfold fX5_next_b2 at hf
  refine sj_iload_n 1 dX5_next_2 rfl ?_
  refine sj_aload_n 0 dX5_next_3 rfl ?_
  refine sj_getR fdX5_20_4 hf dX5_next_4 (fun v1 hf => ?_)
  refine sj_getI fdX5_52_5 hf dX5_next_7 (fun v2 hf => ?_)
  refine sj_icge 43 hf dX5_next_10 (by decide) (fun g10 hf => ?_) (fun g10 hf => ?_)
  · refine sj_iconst (v := (-1)) dX5_next_43 (by decide) ?_
    exact sj_iret (o := sd_oI) hf rfl rfl rfl dX5_next_44
  · refine sj_aload_n 0 dX5_next_13 rfl ?_
    refine sj_iload_n 1 dX5_next_14 rfl ?_
    refine sj_iconst (v := 1) dX5_next_15 (by decide) ?_
    refine sj_isub dX5_next_16 ?_
    refine sj_iload_n 1 dX5_next_17 rfl ?_
    obtain ⟨fs18, he18, hf⟩ := sd_isC_some hf
    refine sj_cI (rest := []) (fun _ _ _ e => sj_runV (n := 2) (As := [.int (w1 - 1), .int w1]) (rest := []) (sX5_canSlide l G w0 (w1 - 1) w1 h _ _ _ e) he18 rfl rfl rfl rfl q3315 q3317 qs103 q127 q3318 (by decide +kernel) rfl rfl ⟨Nat.le_of_ble_eq_true rfl, Nat.le_of_ble_eq_true rfl⟩ rfl (Nat.le_of_ble_eq_true rfl) dX5_next_18) hf (fun r3 h c hf => ?_)
    refine sj_ifne 35 hf dX5_next_21 (by decide) (fun g21 hf => ?_) (fun g21 hf => ?_)
    · refine sj_iload_n 1 dX5_next_35 rfl ?_
      exact sj_iret (o := sd_oI) hf rfl rfl rfl dX5_next_36
    · refine sj_aload_n 0 dX5_next_24 rfl ?_
      refine sj_iload_n 1 dX5_next_25 rfl ?_
      refine sj_iconst (v := 1) dX5_next_26 (by decide) ?_
      refine sj_iadd dX5_next_27 ?_
      refine sj_iload_n 1 dX5_next_28 rfl ?_
      obtain ⟨fs29, he29, hf⟩ := sd_isC_some hf
      refine sj_cI (rest := []) (fun _ _ _ e => sj_runV (n := 2) (As := [.int (w1 + 1), .int w1]) (rest := []) (sX5_canSlide l G w0 (w1 + 1) w1 h _ _ _ e) he29 rfl rfl rfl rfl q3315 q3317 qs103 q127 q3318 (by decide +kernel) rfl rfl ⟨Nat.le_of_ble_eq_true rfl, Nat.le_of_ble_eq_true rfl⟩ rfl (Nat.le_of_ble_eq_true rfl) dX5_next_29) hf (fun r4 h c hf => ?_)
      refine sj_ifeq 37 hf dX5_next_32 (by decide) (fun g32 hf => ?_) (fun g32 hf => ?_)
      · refine sj_iincN 1 (fun x5 => [(1, .int x5), (0, .ref w0)]) 1 hf dX5_next_37 rfl (by decide) (by decide) (fun _ => rfl) (fun x5 hf => ?_)
        refine sj_goto 2 dX5_next_40 (by decide) ?_
        exact sj_loc [1, 0] rfl (Hk2 (w0, x5) _ _ hf)
      · refine sj_iload_n 1 dX5_next_35 rfl ?_
        exact sj_iret (o := sd_oI) hf rfl rfl rfl dX5_next_36
theorem sX5_next_b2_loop (l : Launch) (G : sd_G) (a0 : Nat) (ρ : Int32) (h2 : sd_H) (cT : Nat × Nat) (n : Nat) : ∀ (q : Nat × Int32) (h : sd_H) (c : Nat × Nat), sd_loop (fun k s => fX5_next_b2 G k s.1 s.2) n q h = some (ρ, c, h2) → sd_J mX5_next ((l, G), (3, 65), [.ref a0], (sd_oI ρ, h2), cT) 2 [(0, .ref q.1), (1, .int q.2)] [] h c := by
  induction n with
  | zero => intro q h c hf; cases hf
  | succ n ih => intro q h c hf; exact sX5_next_b2 l G a0 ρ h2 cT _ ih _ _ _ _ hf
def fX5_next (G : sd_G) (a0 : Nat) : sd_M Int32 :=
  sd_loop (fun k s => fX5_next_b2 G k s.1 s.2) sd_FU (a0, 0)
set_option maxHeartbeats 4000000 in
theorem sX5_next (l : Launch) (G : sd_G) (a0 : Nat) (h : sd_H) (ρ : Int32) (cT : Nat × Nat) (h2 : sd_H) (hf : fX5_next G a0 h = some (ρ, cT, h2)) : sd_Met mX5_next ((l, G), (3, 65), [.ref a0], (sd_oI ρ, h2), cT) h := by
  refine sd_entry (plainFor_of_name rfl) rfl (Nat.le_of_ble_eq_true rfl) ?_
  show sd_J mX5_next ((l, G), (3, 65), [.ref a0], (sd_oI ρ, h2), cT) 0 [(0, .ref a0)] [] h cT
  unfold fX5_next at hf
  refine sj_iconst (v := 0) dX5_next_0 (by decide) ?_
  refine sj_istore_n [(1, .int 0), (0, .ref a0)] dX5_next_1 (by decide) rfl ?_
  exact sj_loc [1, 0] rfl (sX5_next_b2_loop l G a0 ρ h2 cT sd_FU (a0, 0) _ _ hf)
/-! SofaDigModel.settle()I -/
abbrev cX5_settle_2 : ByteArray := prog_46_method_19_code
def yX5_settle_2 : MethodName := ⟨RX5, "settle", "()I"⟩
def dkwX5_settle_2_4 : List UInt8 := [132, 1, 1, 42, 182, 0, 96, 61, 167, 255, 160, 42, 180, 0, 40, 6, 92, 46, 27, 96, 79, 27, 172]
abbrev dktX5_settle_2_4 : List UInt8 := dkwX5_settle_2_4 ++ []
def dkwX5_settle_2_3 : List UInt8 := [42, 180, 0, 40, 8, 28, 96, 92, 46, 4, 96, 79, 42, 180, 0, 40, 16, 93, 21, 4, 96, 4, 79]
abbrev dktX5_settle_2_3 : List UInt8 := dkwX5_settle_2_3 ++ dktX5_settle_2_4
def dkwX5_settle_2_2 : List UInt8 := [46, 4, 100, 79, 42, 180, 0, 40, 16, 13, 16, 10, 28, 104, 96, 42, 28, 182, 0, 74, 96, 21, 4, 79]
abbrev dktX5_settle_2_2 : List UInt8 := dkwX5_settle_2_2 ++ dktX5_settle_2_3
def dkwX5_settle_2_1 : List UInt8 := [4, 100, 167, 0, 6, 28, 4, 96, 62, 42, 29, 182, 0, 89, 54, 4, 42, 180, 0, 40, 8, 29, 96, 92]
abbrev dktX5_settle_2_1 : List UInt8 := dkwX5_settle_2_1 ++ dktX5_settle_2_2
def dkwX5_settle_2_0 : List UInt8 := [3, 60, 42, 182, 0, 96, 61, 28, 2, 159, 0, 97, 42, 28, 4, 100, 28, 182, 0, 92, 153, 0, 9, 28]
abbrev dktX5_settle_2_0 : List UInt8 := dkwX5_settle_2_0 ++ dktX5_settle_2_1
theorem dksX5_settle_2_0 : cX5_settle_2.data.toList.drop 0 = dktX5_settle_2_0 := by decide +kernel
theorem dksX5_settle_2_1 : cX5_settle_2.data.toList.drop 24 = dktX5_settle_2_1 := dk_seg dksX5_settle_2_0 24 rfl rfl
theorem dksX5_settle_2_2 : cX5_settle_2.data.toList.drop 48 = dktX5_settle_2_2 := dk_seg dksX5_settle_2_1 24 rfl rfl
theorem dksX5_settle_2_3 : cX5_settle_2.data.toList.drop 72 = dktX5_settle_2_3 := dk_seg dksX5_settle_2_2 24 rfl rfl
theorem dksX5_settle_2_4 : cX5_settle_2.data.toList.drop 95 = dktX5_settle_2_4 := dk_seg dksX5_settle_2_3 23 rfl rfl
theorem dX5_settle_2_0 : decode cX5_settle_2 0 = .ok (.iconst 0, 1) := dk_3 (dk_at dksX5_settle_2_0 0 rfl rfl)
theorem dX5_settle_2_1 : decode cX5_settle_2 1 = .ok (.istore_n 1, 1) := dk_60 (dk_at dksX5_settle_2_0 1 rfl rfl)
theorem dX5_settle_2_2 : decode cX5_settle_2 2 = .ok (.aload_n 0, 1) := dk_42 (dk_at dksX5_settle_2_0 2 rfl rfl)
theorem dX5_settle_2_3 : decode cX5_settle_2 3 = .ok (.invokevirtual 96, 3) := dk_182 0 96 (dk_at dksX5_settle_2_0 3 rfl rfl)
theorem dX5_settle_2_6 : decode cX5_settle_2 6 = .ok (.istore_n 2, 1) := dk_61 (dk_at dksX5_settle_2_0 6 rfl rfl)
theorem dX5_settle_2_7 : decode cX5_settle_2 7 = .ok (.iload_n 2, 1) := dk_28 (dk_at dksX5_settle_2_0 7 rfl rfl)
theorem dX5_settle_2_8 : decode cX5_settle_2 8 = .ok (.iconst (-1), 1) := dk_2 (dk_at dksX5_settle_2_0 8 rfl rfl)
theorem dX5_settle_2_9 : decode cX5_settle_2 9 = .ok (.if_icmp .eq 97, 3) := dk_159 0 97 (dk_at dksX5_settle_2_0 9 rfl rfl)
theorem dX5_settle_2_12 : decode cX5_settle_2 12 = .ok (.aload_n 0, 1) := dk_42 (dk_at dksX5_settle_2_0 12 rfl rfl)
theorem dX5_settle_2_13 : decode cX5_settle_2 13 = .ok (.iload_n 2, 1) := dk_28 (dk_at dksX5_settle_2_0 13 rfl rfl)
theorem dX5_settle_2_14 : decode cX5_settle_2 14 = .ok (.iconst 1, 1) := dk_4 (dk_at dksX5_settle_2_0 14 rfl rfl)
theorem dX5_settle_2_15 : decode cX5_settle_2 15 = .ok (.isub, 1) := dk_100 (dk_at dksX5_settle_2_0 15 rfl rfl)
theorem dX5_settle_2_16 : decode cX5_settle_2 16 = .ok (.iload_n 2, 1) := dk_28 (dk_at dksX5_settle_2_0 16 rfl rfl)
theorem dX5_settle_2_17 : decode cX5_settle_2 17 = .ok (.invokevirtual 92, 3) := dk_182 0 92 (dk_at dksX5_settle_2_0 17 rfl rfl)
theorem dX5_settle_2_20 : decode cX5_settle_2 20 = .ok (.ifCond .eq 9, 3) := dk_153 0 9 (dk_at dksX5_settle_2_0 20 rfl rfl)
theorem dX5_settle_2_23 : decode cX5_settle_2 23 = .ok (.iload_n 2, 1) := dk_28 (dk_at dksX5_settle_2_0 23 rfl rfl)
theorem dX5_settle_2_24 : decode cX5_settle_2 24 = .ok (.iconst 1, 1) := dk_4 (dk_at dksX5_settle_2_1 0 rfl rfl)
theorem dX5_settle_2_25 : decode cX5_settle_2 25 = .ok (.isub, 1) := dk_100 (dk_at dksX5_settle_2_1 1 rfl rfl)
theorem dX5_settle_2_26 : decode cX5_settle_2 26 = .ok (.goto 6, 3) := dk_167 0 6 (dk_at dksX5_settle_2_1 2 rfl rfl)
theorem dX5_settle_2_29 : decode cX5_settle_2 29 = .ok (.iload_n 2, 1) := dk_28 (dk_at dksX5_settle_2_1 5 rfl rfl)
theorem dX5_settle_2_30 : decode cX5_settle_2 30 = .ok (.iconst 1, 1) := dk_4 (dk_at dksX5_settle_2_1 6 rfl rfl)
theorem dX5_settle_2_31 : decode cX5_settle_2 31 = .ok (.iadd, 1) := dk_96 (dk_at dksX5_settle_2_1 7 rfl rfl)
theorem dX5_settle_2_32 : decode cX5_settle_2 32 = .ok (.istore_n 3, 1) := dk_62 (dk_at dksX5_settle_2_1 8 rfl rfl)
theorem dX5_settle_2_33 : decode cX5_settle_2 33 = .ok (.aload_n 0, 1) := dk_42 (dk_at dksX5_settle_2_1 9 rfl rfl)
theorem dX5_settle_2_34 : decode cX5_settle_2 34 = .ok (.iload_n 3, 1) := dk_29 (dk_at dksX5_settle_2_1 10 rfl rfl)
theorem dX5_settle_2_35 : decode cX5_settle_2 35 = .ok (.invokevirtual 89, 3) := dk_182 0 89 (dk_at dksX5_settle_2_1 11 rfl rfl)
theorem dX5_settle_2_38 : decode cX5_settle_2 38 = .ok (.istore 4, 2) := dk_54 4 (dk_at dksX5_settle_2_1 14 rfl rfl)
theorem dX5_settle_2_40 : decode cX5_settle_2 40 = .ok (.aload_n 0, 1) := dk_42 (dk_at dksX5_settle_2_1 16 rfl rfl)
theorem dX5_settle_2_41 : decode cX5_settle_2 41 = .ok (.getfield 40, 3) := dk_180 0 40 (dk_at dksX5_settle_2_1 17 rfl rfl)
theorem dX5_settle_2_44 : decode cX5_settle_2 44 = .ok (.iconst 5, 1) := dk_8 (dk_at dksX5_settle_2_1 20 rfl rfl)
theorem dX5_settle_2_45 : decode cX5_settle_2 45 = .ok (.iload_n 3, 1) := dk_29 (dk_at dksX5_settle_2_1 21 rfl rfl)
theorem dX5_settle_2_46 : decode cX5_settle_2 46 = .ok (.iadd, 1) := dk_96 (dk_at dksX5_settle_2_1 22 rfl rfl)
theorem dX5_settle_2_47 : decode cX5_settle_2 47 = .ok (.dup2, 1) := dk_92 (dk_at dksX5_settle_2_1 23 rfl rfl)
theorem dX5_settle_2_48 : decode cX5_settle_2 48 = .ok (.iaload, 1) := dk_46 (dk_at dksX5_settle_2_2 0 rfl rfl)
theorem dX5_settle_2_49 : decode cX5_settle_2 49 = .ok (.iconst 1, 1) := dk_4 (dk_at dksX5_settle_2_2 1 rfl rfl)
theorem dX5_settle_2_50 : decode cX5_settle_2 50 = .ok (.isub, 1) := dk_100 (dk_at dksX5_settle_2_2 2 rfl rfl)
theorem dX5_settle_2_51 : decode cX5_settle_2 51 = .ok (.iastore, 1) := dk_79 (dk_at dksX5_settle_2_2 3 rfl rfl)
theorem dX5_settle_2_52 : decode cX5_settle_2 52 = .ok (.aload_n 0, 1) := dk_42 (dk_at dksX5_settle_2_2 4 rfl rfl)
theorem dX5_settle_2_53 : decode cX5_settle_2 53 = .ok (.getfield 40, 3) := dk_180 0 40 (dk_at dksX5_settle_2_2 5 rfl rfl)
theorem dX5_settle_2_56 : decode cX5_settle_2 56 = .ok (.bipush 13, 2) := dk_16 13 (dk_at dksX5_settle_2_2 8 rfl rfl)
theorem dX5_settle_2_58 : decode cX5_settle_2 58 = .ok (.bipush 10, 2) := dk_16 10 (dk_at dksX5_settle_2_2 10 rfl rfl)
theorem dX5_settle_2_60 : decode cX5_settle_2 60 = .ok (.iload_n 2, 1) := dk_28 (dk_at dksX5_settle_2_2 12 rfl rfl)
theorem dX5_settle_2_61 : decode cX5_settle_2 61 = .ok (.imul, 1) := dk_104 (dk_at dksX5_settle_2_2 13 rfl rfl)
theorem dX5_settle_2_62 : decode cX5_settle_2 62 = .ok (.iadd, 1) := dk_96 (dk_at dksX5_settle_2_2 14 rfl rfl)
theorem dX5_settle_2_63 : decode cX5_settle_2 63 = .ok (.aload_n 0, 1) := dk_42 (dk_at dksX5_settle_2_2 15 rfl rfl)
theorem dX5_settle_2_64 : decode cX5_settle_2 64 = .ok (.iload_n 2, 1) := dk_28 (dk_at dksX5_settle_2_2 16 rfl rfl)
theorem dX5_settle_2_65 : decode cX5_settle_2 65 = .ok (.invokevirtual 74, 3) := dk_182 0 74 (dk_at dksX5_settle_2_2 17 rfl rfl)
theorem dX5_settle_2_68 : decode cX5_settle_2 68 = .ok (.iadd, 1) := dk_96 (dk_at dksX5_settle_2_2 20 rfl rfl)
theorem dX5_settle_2_69 : decode cX5_settle_2 69 = .ok (.iload 4, 2) := dk_21 4 (dk_at dksX5_settle_2_2 21 rfl rfl)
theorem dX5_settle_2_71 : decode cX5_settle_2 71 = .ok (.iastore, 1) := dk_79 (dk_at dksX5_settle_2_2 23 rfl rfl)
theorem dX5_settle_2_72 : decode cX5_settle_2 72 = .ok (.aload_n 0, 1) := dk_42 (dk_at dksX5_settle_2_3 0 rfl rfl)
theorem dX5_settle_2_73 : decode cX5_settle_2 73 = .ok (.getfield 40, 3) := dk_180 0 40 (dk_at dksX5_settle_2_3 1 rfl rfl)
theorem dX5_settle_2_76 : decode cX5_settle_2 76 = .ok (.iconst 5, 1) := dk_8 (dk_at dksX5_settle_2_3 4 rfl rfl)
theorem dX5_settle_2_77 : decode cX5_settle_2 77 = .ok (.iload_n 2, 1) := dk_28 (dk_at dksX5_settle_2_3 5 rfl rfl)
theorem dX5_settle_2_78 : decode cX5_settle_2 78 = .ok (.iadd, 1) := dk_96 (dk_at dksX5_settle_2_3 6 rfl rfl)
theorem dX5_settle_2_79 : decode cX5_settle_2 79 = .ok (.dup2, 1) := dk_92 (dk_at dksX5_settle_2_3 7 rfl rfl)
theorem dX5_settle_2_80 : decode cX5_settle_2 80 = .ok (.iaload, 1) := dk_46 (dk_at dksX5_settle_2_3 8 rfl rfl)
theorem dX5_settle_2_81 : decode cX5_settle_2 81 = .ok (.iconst 1, 1) := dk_4 (dk_at dksX5_settle_2_3 9 rfl rfl)
theorem dX5_settle_2_82 : decode cX5_settle_2 82 = .ok (.iadd, 1) := dk_96 (dk_at dksX5_settle_2_3 10 rfl rfl)
theorem dX5_settle_2_83 : decode cX5_settle_2 83 = .ok (.iastore, 1) := dk_79 (dk_at dksX5_settle_2_3 11 rfl rfl)
theorem dX5_settle_2_84 : decode cX5_settle_2 84 = .ok (.aload_n 0, 1) := dk_42 (dk_at dksX5_settle_2_3 12 rfl rfl)
theorem dX5_settle_2_85 : decode cX5_settle_2 85 = .ok (.getfield 40, 3) := dk_180 0 40 (dk_at dksX5_settle_2_3 13 rfl rfl)
theorem dX5_settle_2_88 : decode cX5_settle_2 88 = .ok (.bipush 93, 2) := dk_16 93 (dk_at dksX5_settle_2_3 16 rfl rfl)
theorem dX5_settle_2_90 : decode cX5_settle_2 90 = .ok (.iload 4, 2) := dk_21 4 (dk_at dksX5_settle_2_3 18 rfl rfl)
theorem dX5_settle_2_92 : decode cX5_settle_2 92 = .ok (.iadd, 1) := dk_96 (dk_at dksX5_settle_2_3 20 rfl rfl)
theorem dX5_settle_2_93 : decode cX5_settle_2 93 = .ok (.iconst 1, 1) := dk_4 (dk_at dksX5_settle_2_3 21 rfl rfl)
theorem dX5_settle_2_94 : decode cX5_settle_2 94 = .ok (.iastore, 1) := dk_79 (dk_at dksX5_settle_2_3 22 rfl rfl)
theorem dX5_settle_2_95 : decode cX5_settle_2 95 = .ok (.iinc 1 1, 3) := dk_132 1 1 (dk_at dksX5_settle_2_4 0 rfl rfl)
theorem dX5_settle_2_98 : decode cX5_settle_2 98 = .ok (.aload_n 0, 1) := dk_42 (dk_at dksX5_settle_2_4 3 rfl rfl)
theorem dX5_settle_2_99 : decode cX5_settle_2 99 = .ok (.invokevirtual 96, 3) := dk_182 0 96 (dk_at dksX5_settle_2_4 4 rfl rfl)
theorem dX5_settle_2_102 : decode cX5_settle_2 102 = .ok (.istore_n 2, 1) := dk_61 (dk_at dksX5_settle_2_4 7 rfl rfl)
theorem dX5_settle_2_103 : decode cX5_settle_2 103 = .ok (.goto (-96), 3) := dk_167 255 160 (dk_at dksX5_settle_2_4 8 rfl rfl)
theorem dX5_settle_2_106 : decode cX5_settle_2 106 = .ok (.aload_n 0, 1) := dk_42 (dk_at dksX5_settle_2_4 11 rfl rfl)
theorem dX5_settle_2_107 : decode cX5_settle_2 107 = .ok (.getfield 40, 3) := dk_180 0 40 (dk_at dksX5_settle_2_4 12 rfl rfl)
theorem dX5_settle_2_110 : decode cX5_settle_2 110 = .ok (.iconst 3, 1) := dk_6 (dk_at dksX5_settle_2_4 15 rfl rfl)
theorem dX5_settle_2_111 : decode cX5_settle_2 111 = .ok (.dup2, 1) := dk_92 (dk_at dksX5_settle_2_4 16 rfl rfl)
theorem dX5_settle_2_112 : decode cX5_settle_2 112 = .ok (.iaload, 1) := dk_46 (dk_at dksX5_settle_2_4 17 rfl rfl)
theorem dX5_settle_2_113 : decode cX5_settle_2 113 = .ok (.iload_n 1, 1) := dk_27 (dk_at dksX5_settle_2_4 18 rfl rfl)
theorem dX5_settle_2_114 : decode cX5_settle_2 114 = .ok (.iadd, 1) := dk_96 (dk_at dksX5_settle_2_4 19 rfl rfl)
theorem dX5_settle_2_115 : decode cX5_settle_2 115 = .ok (.iastore, 1) := dk_79 (dk_at dksX5_settle_2_4 20 rfl rfl)
theorem dX5_settle_2_116 : decode cX5_settle_2 116 = .ok (.iload_n 1, 1) := dk_27 (dk_at dksX5_settle_2_4 21 rfl rfl)
theorem dX5_settle_2_117 : decode cX5_settle_2 117 = .ok (.ireturn, 1) := dk_172 (dk_at dksX5_settle_2_4 22 rfl rfl)
abbrev mX5_settle_2 : sd_Y := (yX5_settle_2, cX5_settle_2, 5, some (.int), none)
def fX5_settle_2_b32 (G : sd_G) (k7 : Nat × Int32 × Int32 → sd_M Int32) (w0 : Nat) (w1 : Int32) (w2 : Int32) (y0 : Int32) : sd_M Int32 :=
  sd_bnd (sd_isC G 4 w0) fun _ =>
  sd_bnd (fX5_top G w0 y0) fun r5 =>
  sd_bnd (sd_getR G 4 15 w0) fun v6 =>
  sd_bnd (sd_ret ((5 : Int32) + y0)) fun x7 =>
  sd_bnd (sd_aldI G 0 v6 x7) fun v8 =>
  sd_bnd (sd_astI 0 v6 x7 (v8 - 1)) fun _ =>
  sd_bnd (sd_getR G 4 15 w0) fun v9 =>
  sd_bnd (sd_isC G 4 w0) fun _ =>
  sd_bnd (fX5_tall G w0 w2) fun r10 =>
  sd_bnd (sd_astI 0 v9 (((13 : Int32) + ((10 : Int32) * w2)) + r10) r5) fun _ =>
  sd_bnd (sd_getR G 4 15 w0) fun v11 =>
  sd_bnd (sd_ret ((5 : Int32) + w2)) fun x12 =>
  sd_bnd (sd_aldI G 0 v11 x12) fun v13 =>
  sd_bnd (sd_astI 0 v11 x12 (v13 + 1)) fun _ =>
  sd_bnd (sd_getR G 4 15 w0) fun v14 =>
  sd_bnd (sd_astI 0 v14 ((93 : Int32) + r5) 1) fun _ =>
  sd_bnd (sd_ret (w1 + 1)) fun x15 =>
  sd_bnd (sd_isC G 4 w0) fun _ =>
  sd_bnd (fX5_next G w0) fun r16 =>
  k7 (w0, x15, r16)
set_option maxHeartbeats 4000000 in
theorem sX5_settle_2_b32 (l : Launch) (G : sd_G) (a0 : Nat) (ρ : Int32) (h2 : sd_H) (cT : Nat × Nat) (k7 : Nat × Int32 × Int32 → sd_M Int32) (Hk7 : ∀ (q : Nat × Int32 × Int32) (h : sd_H) (c : Nat × Nat), k7 q h = some (ρ, c, h2) → sd_J mX5_settle_2 ((l, G), (4, 86), [.ref a0], (sd_oI ρ, h2), cT) 7 [(0, .ref q.1), (1, .int q.2.1), (2, .int q.2.2)] [] h c) (w0 : Nat) (w1 : Int32) (w2 : Int32) (y0 : Int32) (h : sd_H) (c : Nat × Nat) (hf : fX5_settle_2_b32 G k7 w0 w1 w2 y0 h = some (ρ, c, h2)) : sd_J mX5_settle_2 ((l, G), (4, 86), [.ref a0], (sd_oI ρ, h2), cT) 32 [(0, .ref w0), (1, .int w1), (2, .int w2)] [.int y0] h c := by
  unfold fX5_settle_2_b32 at hf
  refine sj_istore_n [(3, .int y0), (0, .ref w0), (1, .int w1), (2, .int w2)] dX5_settle_2_32 (by decide) rfl ?_
  refine sj_aload_n 1 dX5_settle_2_33 rfl ?_
  refine sj_iload_n 0 dX5_settle_2_34 rfl ?_
  obtain ⟨fs35, he35, hf⟩ := sd_isC_some hf
  refine sj_cI (rest := []) (fun _ _ _ e => sj_runV (n := 1) (As := [.int y0]) (rest := []) (sX5_top l G w0 y0 h _ _ _ e) he35 rfl rfl rfl rfl q3202 q3204 qs89 q127 q3205 (by decide +kernel) rfl rfl ⟨Nat.le_of_ble_eq_true rfl, Nat.le_of_ble_eq_true rfl⟩ rfl (Nat.le_of_ble_eq_true rfl) dX5_settle_2_35) hf (fun r5 h c hf => ?_)
  refine sj_istore [(4, .int r5), (3, .int y0), (0, .ref w0), (1, .int w1), (2, .int w2)] dX5_settle_2_38 (by decide) rfl ?_
  refine sj_aload_n 2 dX5_settle_2_40 rfl ?_
  refine sj_getR fdX5_40_4 hf dX5_settle_2_41 (fun v6 hf => ?_)
  refine sj_iconst (v := 5) dX5_settle_2_44 (by decide) ?_
  refine sj_iload_n 1 dX5_settle_2_45 rfl ?_
  refine sj_iadd dX5_settle_2_46 ?_
  refine sj_nameI hf (fun x7 hf => ?_)
  refine sj_dup2 dX5_settle_2_47 rfl rfl ?_
  refine sj_iald hf dX5_settle_2_48 (fun v8 hf => ?_)
  refine sj_iconst (v := 1) dX5_settle_2_49 (by decide) ?_
  refine sj_isub dX5_settle_2_50 ?_
  refine sj_iast hf dX5_settle_2_51 (fun h hf => ?_)
  refine sj_aload_n 2 dX5_settle_2_52 rfl ?_
  refine sj_getR fdX5_40_4 hf dX5_settle_2_53 (fun v9 hf => ?_)
  refine sj_bipush (v := 13) dX5_settle_2_56 (by decide) ?_
  refine sj_bipush (v := 10) dX5_settle_2_58 (by decide) ?_
  refine sj_iload_n 4 dX5_settle_2_60 rfl ?_
  refine sj_imul dX5_settle_2_61 ?_
  refine sj_iadd dX5_settle_2_62 ?_
  refine sj_aload_n 2 dX5_settle_2_63 rfl ?_
  refine sj_iload_n 4 dX5_settle_2_64 rfl ?_
  obtain ⟨fs65, he65, hf⟩ := sd_isC_some hf
  refine sj_cI (rest := [.int ((13 : Int32) + ((10 : Int32) * w2)), .ref v9]) (fun _ _ _ e => sj_runV (n := 1) (As := [.int w2]) (rest := [.int ((13 : Int32) + ((10 : Int32) * w2)), .ref v9]) (sX5_tall l G w0 w2 h _ _ _ e) he65 rfl rfl rfl rfl q3178 q3180 qs85 q127 q3181 (by decide +kernel) rfl rfl ⟨Nat.le_of_ble_eq_true rfl, Nat.le_of_ble_eq_true rfl⟩ rfl (Nat.le_of_ble_eq_true rfl) dX5_settle_2_65) hf (fun r10 h c hf => ?_)
  refine sj_iadd dX5_settle_2_68 ?_
  refine sj_iload 0 dX5_settle_2_69 rfl ?_
  refine sj_iast hf dX5_settle_2_71 (fun h hf => ?_)
  refine sj_aload_n 2 dX5_settle_2_72 rfl ?_
  refine sj_getR fdX5_40_4 hf dX5_settle_2_73 (fun v11 hf => ?_)
  refine sj_iconst (v := 5) dX5_settle_2_76 (by decide) ?_
  refine sj_iload_n 4 dX5_settle_2_77 rfl ?_
  refine sj_iadd dX5_settle_2_78 ?_
  refine sj_nameI hf (fun x12 hf => ?_)
  refine sj_dup2 dX5_settle_2_79 rfl rfl ?_
  refine sj_iald hf dX5_settle_2_80 (fun v13 hf => ?_)
  refine sj_iconst (v := 1) dX5_settle_2_81 (by decide) ?_
  refine sj_iadd dX5_settle_2_82 ?_
  refine sj_iast hf dX5_settle_2_83 (fun h hf => ?_)
  refine sj_aload_n 2 dX5_settle_2_84 rfl ?_
  refine sj_getR fdX5_40_4 hf dX5_settle_2_85 (fun v14 hf => ?_)
  refine sj_bipush (v := 93) dX5_settle_2_88 (by decide) ?_
  refine sj_iload 0 dX5_settle_2_90 rfl ?_
  refine sj_iadd dX5_settle_2_92 ?_
  refine sj_iconst (v := 1) dX5_settle_2_93 (by decide) ?_
  refine sj_iast hf dX5_settle_2_94 (fun h hf => ?_)
  refine sj_iincN 3 (fun x15 => [(1, .int x15), (4, .int r5), (3, .int y0), (0, .ref w0), (2, .int w2)]) 1 hf dX5_settle_2_95 rfl (by decide) (by decide) (fun _ => rfl) (fun x15 hf => ?_)
  refine sj_aload_n 3 dX5_settle_2_98 rfl ?_
  obtain ⟨fs99, he99, hf⟩ := sd_isC_some hf
  refine sj_cI (rest := []) (fun _ _ _ e => sj_runV (n := 0) (As := []) (rest := []) (sX5_next l G w0 h _ _ _ e) he99 rfl rfl rfl rfl q3311 q3313 qs102 q127 q3314 (by decide +kernel) rfl rfl ⟨Nat.le_of_ble_eq_true rfl, Nat.le_of_ble_eq_true rfl⟩ rfl (Nat.le_of_ble_eq_true rfl) dX5_settle_2_99) hf (fun r16 h c hf => ?_)
  refine sj_istore_n [(2, .int r16), (1, .int x15), (4, .int r5), (3, .int y0), (0, .ref w0)] dX5_settle_2_102 (by decide) rfl ?_
  refine sj_goto 7 dX5_settle_2_103 (by decide) ?_
  exact sj_loc [4, 1, 0] rfl (Hk7 (w0, x15, r16) _ _ hf)
def fX5_settle_2_b7 (G : sd_G) (k7 : Nat × Int32 × Int32 → sd_M Int32) (w0 : Nat) (w1 : Int32) (w2 : Int32) : sd_M Int32 :=
  if w2 = (-1) then (
    sd_bnd (sd_getR G 4 15 w0) fun v2 =>
    sd_bnd (sd_aldI G 0 v2 3) fun v3 =>
    sd_bnd (sd_astI 0 v2 3 (v3 + w1)) fun _ =>
    sd_ret w1)
  else (
    sd_bnd (sd_isC G 4 w0) fun _ =>
    sd_bnd (fX5_canSlide G w0 (w2 - 1) w2) fun r4 =>
    if r4 = 0 then (
      fX5_settle_2_b32 G k7 w0 w1 w2 (w2 + 1))
    else (
      fX5_settle_2_b32 G k7 w0 w1 w2 (w2 - 1)))
set_option maxHeartbeats 4000000 in
theorem sX5_settle_2_b7 (l : Launch) (G : sd_G) (a0 : Nat) (ρ : Int32) (h2 : sd_H) (cT : Nat × Nat) (k7 : Nat × Int32 × Int32 → sd_M Int32) (Hk7 : ∀ (q : Nat × Int32 × Int32) (h : sd_H) (c : Nat × Nat), k7 q h = some (ρ, c, h2) → sd_J mX5_settle_2 ((l, G), (4, 86), [.ref a0], (sd_oI ρ, h2), cT) 7 [(0, .ref q.1), (1, .int q.2.1), (2, .int q.2.2)] [] h c) (w0 : Nat) (w1 : Int32) (w2 : Int32) (h : sd_H) (c : Nat × Nat) (hf : fX5_settle_2_b7 G k7 w0 w1 w2 h = some (ρ, c, h2)) : sd_J mX5_settle_2 ((l, G), (4, 86), [.ref a0], (sd_oI ρ, h2), cT) 7 [(0, .ref w0), (1, .int w1), (2, .int w2)] [] h c := by
  unfold fX5_settle_2_b7 at hf
  refine sj_iload_n 2 dX5_settle_2_7 rfl ?_
  refine sj_iconst (v := (-1)) dX5_settle_2_8 (by decide) ?_
  refine sj_iceq 106 hf dX5_settle_2_9 (by decide) (fun g9 hf => ?_) (fun g9 hf => ?_)
  · refine sj_aload_n 0 dX5_settle_2_106 rfl ?_
    refine sj_getR fdX5_40_4 hf dX5_settle_2_107 (fun v2 hf => ?_)
    refine sj_iconst (v := 3) dX5_settle_2_110 (by decide) ?_
    refine sj_dup2 dX5_settle_2_111 rfl rfl ?_
    refine sj_iald hf dX5_settle_2_112 (fun v3 hf => ?_)
    refine sj_iload_n 1 dX5_settle_2_113 rfl ?_
    refine sj_iadd dX5_settle_2_114 ?_
    refine sj_iast hf dX5_settle_2_115 (fun h hf => ?_)
    refine sj_iload_n 1 dX5_settle_2_116 rfl ?_
    exact sj_iret (o := sd_oI) hf rfl rfl rfl dX5_settle_2_117
  · refine sj_aload_n 0 dX5_settle_2_12 rfl ?_
    refine sj_iload_n 2 dX5_settle_2_13 rfl ?_
    refine sj_iconst (v := 1) dX5_settle_2_14 (by decide) ?_
    refine sj_isub dX5_settle_2_15 ?_
    refine sj_iload_n 2 dX5_settle_2_16 rfl ?_
    obtain ⟨fs17, he17, hf⟩ := sd_isC_some hf
    refine sj_cI (rest := []) (fun _ _ _ e => sj_runV (n := 2) (As := [.int (w2 - 1), .int w2]) (rest := []) (sX5_canSlide l G w0 (w2 - 1) w2 h _ _ _ e) he17 rfl rfl rfl rfl q3315 q3317 qs103 q127 q3318 (by decide +kernel) rfl rfl ⟨Nat.le_of_ble_eq_true rfl, Nat.le_of_ble_eq_true rfl⟩ rfl (Nat.le_of_ble_eq_true rfl) dX5_settle_2_17) hf (fun r4 h c hf => ?_)
    refine sj_ifeq 29 hf dX5_settle_2_20 (by decide) (fun g20 hf => ?_) (fun g20 hf => ?_)
    · refine sj_iload_n 2 dX5_settle_2_29 rfl ?_
      refine sj_iconst (v := 1) dX5_settle_2_30 (by decide) ?_
      refine sj_iadd dX5_settle_2_31 ?_
      exact sj_loc [0, 1, 2] rfl (sX5_settle_2_b32 l G a0 ρ h2 cT k7 Hk7 w0 w1 w2 (w2 + 1) _ _ hf)
    · refine sj_iload_n 2 dX5_settle_2_23 rfl ?_
      refine sj_iconst (v := 1) dX5_settle_2_24 (by decide) ?_
      refine sj_isub dX5_settle_2_25 ?_
      refine sj_goto 32 dX5_settle_2_26 (by decide) ?_
      exact sj_loc [0, 1, 2] rfl (sX5_settle_2_b32 l G a0 ρ h2 cT k7 Hk7 w0 w1 w2 (w2 - 1) _ _ hf)
theorem sX5_settle_2_b7_loop (l : Launch) (G : sd_G) (a0 : Nat) (ρ : Int32) (h2 : sd_H) (cT : Nat × Nat) (n : Nat) : ∀ (q : Nat × Int32 × Int32) (h : sd_H) (c : Nat × Nat), sd_loop (fun k s => fX5_settle_2_b7 G k s.1 s.2.1 s.2.2) n q h = some (ρ, c, h2) → sd_J mX5_settle_2 ((l, G), (4, 86), [.ref a0], (sd_oI ρ, h2), cT) 7 [(0, .ref q.1), (1, .int q.2.1), (2, .int q.2.2)] [] h c := by
  induction n with
  | zero => intro q h c hf; cases hf
  | succ n ih => intro q h c hf; exact sX5_settle_2_b7 l G a0 ρ h2 cT _ ih _ _ _ _ _ hf
def fX5_settle_2 (G : sd_G) (a0 : Nat) : sd_M Int32 :=
  sd_bnd (sd_isC G 4 a0) fun _ =>
  sd_bnd (fX5_next G a0) fun r1 =>
  sd_loop (fun k s => fX5_settle_2_b7 G k s.1 s.2.1 s.2.2) sd_FU (a0, 0, r1)
set_option maxHeartbeats 4000000 in
theorem sX5_settle_2 (l : Launch) (G : sd_G) (a0 : Nat) (h : sd_H) (ρ : Int32) (cT : Nat × Nat) (h2 : sd_H) (hf : fX5_settle_2 G a0 h = some (ρ, cT, h2)) : sd_Met mX5_settle_2 ((l, G), (4, 86), [.ref a0], (sd_oI ρ, h2), cT) h := by
  refine sd_entry (plainFor_of_name rfl) rfl (Nat.le_of_ble_eq_true rfl) ?_
  show sd_J mX5_settle_2 ((l, G), (4, 86), [.ref a0], (sd_oI ρ, h2), cT) 0 [(0, .ref a0)] [] h cT
  unfold fX5_settle_2 at hf
  refine sj_iconst (v := 0) dX5_settle_2_0 (by decide) ?_
  refine sj_istore_n [(1, .int 0), (0, .ref a0)] dX5_settle_2_1 (by decide) rfl ?_
  refine sj_aload_n 1 dX5_settle_2_2 rfl ?_
  obtain ⟨fs3, he3, hf⟩ := sd_isC_some hf
  refine sj_cI (rest := []) (fun _ _ _ e => sj_runV (n := 0) (As := []) (rest := []) (sX5_next l G a0 h _ _ _ e) he3 rfl rfl rfl rfl q3311 q3313 qs102 q127 q3314 (by decide +kernel) rfl rfl ⟨Nat.le_of_ble_eq_true rfl, Nat.le_of_ble_eq_true rfl⟩ rfl (Nat.le_of_ble_eq_true rfl) dX5_settle_2_3) hf (fun r1 h c hf => ?_)
  refine sj_istore_n [(2, .int r1), (1, .int 0), (0, .ref a0)] dX5_settle_2_6 (by decide) rfl ?_
  exact sj_loc [2, 1, 0] rfl (sX5_settle_2_b7_loop l G a0 ρ h2 cT sd_FU (a0, 0, r1) _ _ hf)
/-! SofaDigModel.digs(I)I -/
abbrev cX5_digs : ByteArray := prog_46_method_20_code
def yX5_digs : MethodName := ⟨RX5, "digs", "(I)I"⟩
def dkwX5_digs_3 : List UInt8 := [42, 182, 0, 103, 87, 29, 172]
abbrev dktX5_digs_3 : List UInt8 := dkwX5_digs_3 ++ []
def dkwX5_digs_2 : List UInt8 := [17, 0, 173, 29, 96, 42, 180, 0, 40, 16, 93, 28, 96, 46, 4, 160, 0, 7, 4, 167, 0, 4, 5, 79]
abbrev dktX5_digs_2 : List UInt8 := dkwX5_digs_2 ++ dktX5_digs_3
def dkwX5_digs_1 : List UInt8 := [46, 4, 100, 79, 42, 180, 0, 40, 5, 92, 46, 4, 96, 79, 29, 2, 159, 0, 31, 42, 180, 0, 40]
abbrev dktX5_digs_1 : List UInt8 := dkwX5_digs_1 ++ dktX5_digs_2
def dkwX5_digs_0 : List UInt8 := [42, 27, 182, 0, 89, 61, 42, 180, 0, 20, 180, 0, 100, 28, 46, 62, 42, 180, 0, 40, 8, 27, 96, 92]
abbrev dktX5_digs_0 : List UInt8 := dkwX5_digs_0 ++ dktX5_digs_1
theorem dksX5_digs_0 : cX5_digs.data.toList.drop 0 = dktX5_digs_0 := by decide +kernel
theorem dksX5_digs_1 : cX5_digs.data.toList.drop 24 = dktX5_digs_1 := dk_seg dksX5_digs_0 24 rfl rfl
theorem dksX5_digs_2 : cX5_digs.data.toList.drop 47 = dktX5_digs_2 := dk_seg dksX5_digs_1 23 rfl rfl
theorem dksX5_digs_3 : cX5_digs.data.toList.drop 71 = dktX5_digs_3 := dk_seg dksX5_digs_2 24 rfl rfl
theorem dX5_digs_0 : decode cX5_digs 0 = .ok (.aload_n 0, 1) := dk_42 (dk_at dksX5_digs_0 0 rfl rfl)
theorem dX5_digs_1 : decode cX5_digs 1 = .ok (.iload_n 1, 1) := dk_27 (dk_at dksX5_digs_0 1 rfl rfl)
theorem dX5_digs_2 : decode cX5_digs 2 = .ok (.invokevirtual 89, 3) := dk_182 0 89 (dk_at dksX5_digs_0 2 rfl rfl)
theorem dX5_digs_5 : decode cX5_digs 5 = .ok (.istore_n 2, 1) := dk_61 (dk_at dksX5_digs_0 5 rfl rfl)
theorem dX5_digs_6 : decode cX5_digs 6 = .ok (.aload_n 0, 1) := dk_42 (dk_at dksX5_digs_0 6 rfl rfl)
theorem dX5_digs_7 : decode cX5_digs 7 = .ok (.getfield 20, 3) := dk_180 0 20 (dk_at dksX5_digs_0 7 rfl rfl)
theorem dX5_digs_10 : decode cX5_digs 10 = .ok (.getfield 100, 3) := dk_180 0 100 (dk_at dksX5_digs_0 10 rfl rfl)
theorem dX5_digs_13 : decode cX5_digs 13 = .ok (.iload_n 2, 1) := dk_28 (dk_at dksX5_digs_0 13 rfl rfl)
theorem dX5_digs_14 : decode cX5_digs 14 = .ok (.iaload, 1) := dk_46 (dk_at dksX5_digs_0 14 rfl rfl)
theorem dX5_digs_15 : decode cX5_digs 15 = .ok (.istore_n 3, 1) := dk_62 (dk_at dksX5_digs_0 15 rfl rfl)
theorem dX5_digs_16 : decode cX5_digs 16 = .ok (.aload_n 0, 1) := dk_42 (dk_at dksX5_digs_0 16 rfl rfl)
theorem dX5_digs_17 : decode cX5_digs 17 = .ok (.getfield 40, 3) := dk_180 0 40 (dk_at dksX5_digs_0 17 rfl rfl)
theorem dX5_digs_20 : decode cX5_digs 20 = .ok (.iconst 5, 1) := dk_8 (dk_at dksX5_digs_0 20 rfl rfl)
theorem dX5_digs_21 : decode cX5_digs 21 = .ok (.iload_n 1, 1) := dk_27 (dk_at dksX5_digs_0 21 rfl rfl)
theorem dX5_digs_22 : decode cX5_digs 22 = .ok (.iadd, 1) := dk_96 (dk_at dksX5_digs_0 22 rfl rfl)
theorem dX5_digs_23 : decode cX5_digs 23 = .ok (.dup2, 1) := dk_92 (dk_at dksX5_digs_0 23 rfl rfl)
theorem dX5_digs_24 : decode cX5_digs 24 = .ok (.iaload, 1) := dk_46 (dk_at dksX5_digs_1 0 rfl rfl)
theorem dX5_digs_25 : decode cX5_digs 25 = .ok (.iconst 1, 1) := dk_4 (dk_at dksX5_digs_1 1 rfl rfl)
theorem dX5_digs_26 : decode cX5_digs 26 = .ok (.isub, 1) := dk_100 (dk_at dksX5_digs_1 2 rfl rfl)
theorem dX5_digs_27 : decode cX5_digs 27 = .ok (.iastore, 1) := dk_79 (dk_at dksX5_digs_1 3 rfl rfl)
theorem dX5_digs_28 : decode cX5_digs 28 = .ok (.aload_n 0, 1) := dk_42 (dk_at dksX5_digs_1 4 rfl rfl)
theorem dX5_digs_29 : decode cX5_digs 29 = .ok (.getfield 40, 3) := dk_180 0 40 (dk_at dksX5_digs_1 5 rfl rfl)
theorem dX5_digs_32 : decode cX5_digs 32 = .ok (.iconst 2, 1) := dk_5 (dk_at dksX5_digs_1 8 rfl rfl)
theorem dX5_digs_33 : decode cX5_digs 33 = .ok (.dup2, 1) := dk_92 (dk_at dksX5_digs_1 9 rfl rfl)
theorem dX5_digs_34 : decode cX5_digs 34 = .ok (.iaload, 1) := dk_46 (dk_at dksX5_digs_1 10 rfl rfl)
theorem dX5_digs_35 : decode cX5_digs 35 = .ok (.iconst 1, 1) := dk_4 (dk_at dksX5_digs_1 11 rfl rfl)
theorem dX5_digs_36 : decode cX5_digs 36 = .ok (.iadd, 1) := dk_96 (dk_at dksX5_digs_1 12 rfl rfl)
theorem dX5_digs_37 : decode cX5_digs 37 = .ok (.iastore, 1) := dk_79 (dk_at dksX5_digs_1 13 rfl rfl)
theorem dX5_digs_38 : decode cX5_digs 38 = .ok (.iload_n 3, 1) := dk_29 (dk_at dksX5_digs_1 14 rfl rfl)
theorem dX5_digs_39 : decode cX5_digs 39 = .ok (.iconst (-1), 1) := dk_2 (dk_at dksX5_digs_1 15 rfl rfl)
theorem dX5_digs_40 : decode cX5_digs 40 = .ok (.if_icmp .eq 31, 3) := dk_159 0 31 (dk_at dksX5_digs_1 16 rfl rfl)
theorem dX5_digs_43 : decode cX5_digs 43 = .ok (.aload_n 0, 1) := dk_42 (dk_at dksX5_digs_1 19 rfl rfl)
theorem dX5_digs_44 : decode cX5_digs 44 = .ok (.getfield 40, 3) := dk_180 0 40 (dk_at dksX5_digs_1 20 rfl rfl)
theorem dX5_digs_47 : decode cX5_digs 47 = .ok (.sipush 173, 3) := dk_17 0 173 (dk_at dksX5_digs_2 0 rfl rfl)
theorem dX5_digs_50 : decode cX5_digs 50 = .ok (.iload_n 3, 1) := dk_29 (dk_at dksX5_digs_2 3 rfl rfl)
theorem dX5_digs_51 : decode cX5_digs 51 = .ok (.iadd, 1) := dk_96 (dk_at dksX5_digs_2 4 rfl rfl)
theorem dX5_digs_52 : decode cX5_digs 52 = .ok (.aload_n 0, 1) := dk_42 (dk_at dksX5_digs_2 5 rfl rfl)
theorem dX5_digs_53 : decode cX5_digs 53 = .ok (.getfield 40, 3) := dk_180 0 40 (dk_at dksX5_digs_2 6 rfl rfl)
theorem dX5_digs_56 : decode cX5_digs 56 = .ok (.bipush 93, 2) := dk_16 93 (dk_at dksX5_digs_2 9 rfl rfl)
theorem dX5_digs_58 : decode cX5_digs 58 = .ok (.iload_n 2, 1) := dk_28 (dk_at dksX5_digs_2 11 rfl rfl)
theorem dX5_digs_59 : decode cX5_digs 59 = .ok (.iadd, 1) := dk_96 (dk_at dksX5_digs_2 12 rfl rfl)
theorem dX5_digs_60 : decode cX5_digs 60 = .ok (.iaload, 1) := dk_46 (dk_at dksX5_digs_2 13 rfl rfl)
theorem dX5_digs_61 : decode cX5_digs 61 = .ok (.iconst 1, 1) := dk_4 (dk_at dksX5_digs_2 14 rfl rfl)
theorem dX5_digs_62 : decode cX5_digs 62 = .ok (.if_icmp .ne 7, 3) := dk_160 0 7 (dk_at dksX5_digs_2 15 rfl rfl)
theorem dX5_digs_65 : decode cX5_digs 65 = .ok (.iconst 1, 1) := dk_4 (dk_at dksX5_digs_2 18 rfl rfl)
theorem dX5_digs_66 : decode cX5_digs 66 = .ok (.goto 4, 3) := dk_167 0 4 (dk_at dksX5_digs_2 19 rfl rfl)
theorem dX5_digs_69 : decode cX5_digs 69 = .ok (.iconst 2, 1) := dk_5 (dk_at dksX5_digs_2 22 rfl rfl)
theorem dX5_digs_70 : decode cX5_digs 70 = .ok (.iastore, 1) := dk_79 (dk_at dksX5_digs_2 23 rfl rfl)
theorem dX5_digs_71 : decode cX5_digs 71 = .ok (.aload_n 0, 1) := dk_42 (dk_at dksX5_digs_3 0 rfl rfl)
theorem dX5_digs_72 : decode cX5_digs 72 = .ok (.invokevirtual 103, 3) := dk_182 0 103 (dk_at dksX5_digs_3 1 rfl rfl)
theorem dX5_digs_75 : decode cX5_digs 75 = .ok (.pop, 1) := dk_87 (dk_at dksX5_digs_3 4 rfl rfl)
theorem dX5_digs_76 : decode cX5_digs 76 = .ok (.iload_n 3, 1) := dk_29 (dk_at dksX5_digs_3 5 rfl rfl)
theorem dX5_digs_77 : decode cX5_digs 77 = .ok (.ireturn, 1) := dk_172 (dk_at dksX5_digs_3 6 rfl rfl)
abbrev mX5_digs : sd_Y := (yX5_digs, cX5_digs, 4, some (.int), none)
def fX5_digs_b70 (G : sd_G) (w0 : Nat) (w3 : Int32) (y0 : Int32) (y1 : Int32) (y2 : Nat) : sd_M Int32 :=
  sd_bnd (sd_astI 0 y2 y1 y0) fun _ =>
  sd_bnd (sd_isC G 4 w0) fun _ =>
  sd_bnd (fX5_settle_2 G w0) fun r14 =>
  sd_ret w3
set_option maxHeartbeats 4000000 in
theorem sX5_digs_b70 (l : Launch) (G : sd_G) (a0 : Nat) (a1 : Int32) (ρ : Int32) (h2 : sd_H) (cT : Nat × Nat) (w0 : Nat) (w3 : Int32) (y0 : Int32) (y1 : Int32) (y2 : Nat) (h : sd_H) (c : Nat × Nat) (hf : fX5_digs_b70 G w0 w3 y0 y1 y2 h = some (ρ, c, h2)) : sd_J mX5_digs ((l, G), (5, 110), [.ref a0, .int a1], (sd_oI ρ, h2), cT) 70 [(0, .ref w0), (3, .int w3)] [.int y0, .int y1, .ref y2] h c := by
  unfold fX5_digs_b70 at hf
  refine sj_iast hf dX5_digs_70 (fun h hf => ?_)
  refine sj_aload_n 0 dX5_digs_71 rfl ?_
  obtain ⟨fs72, he72, hf⟩ := sd_isC_some hf
  refine sj_cI (rest := []) (fun _ _ _ e => sj_runV (n := 0) (As := []) (rest := []) (sX5_settle_2 l G w0 h _ _ _ e) he72 rfl rfl rfl rfl q3307 q3309 qs101 q127 q3310 (by decide +kernel) rfl rfl ⟨Nat.le_of_ble_eq_true rfl, Nat.le_of_ble_eq_true rfl⟩ rfl (Nat.le_of_ble_eq_true rfl) dX5_digs_72) hf (fun r14 h c hf => ?_)
  refine sj_pop dX5_digs_75 rfl ?_
  refine sj_iload_n 1 dX5_digs_76 rfl ?_
  exact sj_iret (o := sd_oI) hf rfl rfl rfl dX5_digs_77
def fX5_digs (G : sd_G) (a0 : Nat) (a1 : Int32) : sd_M Int32 :=
  sd_bnd (sd_isC G 4 a0) fun _ =>
  sd_bnd (fX5_top G a0 a1) fun r1 =>
  sd_bnd (sd_getR G 4 4 a0) fun v2 =>
  sd_bnd (sd_getR G 5 10 v2) fun v3 =>
  sd_bnd (sd_aldI G 0 v3 r1) fun v4 =>
  sd_bnd (sd_getR G 4 15 a0) fun v5 =>
  sd_bnd (sd_ret ((5 : Int32) + a1)) fun x6 =>
  sd_bnd (sd_aldI G 0 v5 x6) fun v7 =>
  sd_bnd (sd_astI 0 v5 x6 (v7 - 1)) fun _ =>
  sd_bnd (sd_getR G 4 15 a0) fun v8 =>
  sd_bnd (sd_aldI G 0 v8 2) fun v9 =>
  sd_bnd (sd_astI 0 v8 2 (v9 + 1)) fun _ =>
  if v4 = (-1) then (
    sd_bnd (sd_isC G 4 a0) fun _ =>
    sd_bnd (fX5_settle_2 G a0) fun r10 =>
    sd_ret v4)
  else (
    sd_bnd (sd_getR G 4 15 a0) fun v11 =>
    sd_bnd (sd_getR G 4 15 a0) fun v12 =>
    sd_bnd (sd_aldI G 0 v12 ((93 : Int32) + r1)) fun v13 =>
    if v13 = 1 then (
      fX5_digs_b70 G a0 v4 1 ((173 : Int32) + v4) v11)
    else (
      fX5_digs_b70 G a0 v4 2 ((173 : Int32) + v4) v11))
set_option maxHeartbeats 4000000 in
theorem sX5_digs (l : Launch) (G : sd_G) (a0 : Nat) (a1 : Int32) (h : sd_H) (ρ : Int32) (cT : Nat × Nat) (h2 : sd_H) (hf : fX5_digs G a0 a1 h = some (ρ, cT, h2)) : sd_Met mX5_digs ((l, G), (5, 110), [.ref a0, .int a1], (sd_oI ρ, h2), cT) h := by
  refine sd_entry (plainFor_of_name rfl) rfl (Nat.le_of_ble_eq_true rfl) ?_
  show sd_J mX5_digs ((l, G), (5, 110), [.ref a0, .int a1], (sd_oI ρ, h2), cT) 0 [(0, .ref a0), (1, .int a1)] [] h cT
  unfold fX5_digs at hf
  refine sj_aload_n 0 dX5_digs_0 rfl ?_
  refine sj_iload_n 1 dX5_digs_1 rfl ?_
  obtain ⟨fs2, he2, hf⟩ := sd_isC_some hf
  refine sj_cI (rest := []) (fun _ _ _ e => sj_runV (n := 1) (As := [.int a1]) (rest := []) (sX5_top l G a0 a1 h _ _ _ e) he2 rfl rfl rfl rfl q3202 q3204 qs89 q127 q3205 (by decide +kernel) rfl rfl ⟨Nat.le_of_ble_eq_true rfl, Nat.le_of_ble_eq_true rfl⟩ rfl (Nat.le_of_ble_eq_true rfl) dX5_digs_2) hf (fun r1 h c hf => ?_)
  refine sj_istore_n [(2, .int r1), (0, .ref a0), (1, .int a1)] dX5_digs_5 (by decide) rfl ?_
  refine sj_aload_n 1 dX5_digs_6 rfl ?_
  refine sj_getR fdX5_20_4 hf dX5_digs_7 (fun v2 hf => ?_)
  refine sj_getR fdX5_100_5 hf dX5_digs_10 (fun v3 hf => ?_)
  refine sj_iload_n 0 dX5_digs_13 rfl ?_
  refine sj_iald hf dX5_digs_14 (fun v4 hf => ?_)
  refine sj_istore_n [(3, .int v4), (2, .int r1), (0, .ref a0), (1, .int a1)] dX5_digs_15 (by decide) rfl ?_
  refine sj_aload_n 2 dX5_digs_16 rfl ?_
  refine sj_getR fdX5_40_4 hf dX5_digs_17 (fun v5 hf => ?_)
  refine sj_iconst (v := 5) dX5_digs_20 (by decide) ?_
  refine sj_iload_n 3 dX5_digs_21 rfl ?_
  refine sj_iadd dX5_digs_22 ?_
  refine sj_nameI hf (fun x6 hf => ?_)
  refine sj_dup2 dX5_digs_23 rfl rfl ?_
  refine sj_iald hf dX5_digs_24 (fun v7 hf => ?_)
  refine sj_iconst (v := 1) dX5_digs_25 (by decide) ?_
  refine sj_isub dX5_digs_26 ?_
  refine sj_iast hf dX5_digs_27 (fun h hf => ?_)
  refine sj_aload_n 2 dX5_digs_28 rfl ?_
  refine sj_getR fdX5_40_4 hf dX5_digs_29 (fun v8 hf => ?_)
  refine sj_iconst (v := 2) dX5_digs_32 (by decide) ?_
  refine sj_dup2 dX5_digs_33 rfl rfl ?_
  refine sj_iald hf dX5_digs_34 (fun v9 hf => ?_)
  refine sj_iconst (v := 1) dX5_digs_35 (by decide) ?_
  refine sj_iadd dX5_digs_36 ?_
  refine sj_iast hf dX5_digs_37 (fun h hf => ?_)
  refine sj_iload_n 0 dX5_digs_38 rfl ?_
  refine sj_iconst (v := (-1)) dX5_digs_39 (by decide) ?_
  refine sj_iceq 71 hf dX5_digs_40 (by decide) (fun g40 hf => ?_) (fun g40 hf => ?_)
  · refine sj_aload_n 2 dX5_digs_71 rfl ?_
    obtain ⟨fs72, he72, hf⟩ := sd_isC_some hf
    refine sj_cI (rest := []) (fun _ _ _ e => sj_runV (n := 0) (As := []) (rest := []) (sX5_settle_2 l G a0 h _ _ _ e) he72 rfl rfl rfl rfl q3307 q3309 qs101 q127 q3310 (by decide +kernel) rfl rfl ⟨Nat.le_of_ble_eq_true rfl, Nat.le_of_ble_eq_true rfl⟩ rfl (Nat.le_of_ble_eq_true rfl) dX5_digs_72) hf (fun r10 h c hf => ?_)
    refine sj_pop dX5_digs_75 rfl ?_
    refine sj_iload_n 0 dX5_digs_76 rfl ?_
    exact sj_iret (o := sd_oI) hf rfl rfl rfl dX5_digs_77
  · refine sj_aload_n 2 dX5_digs_43 rfl ?_
    refine sj_getR fdX5_40_4 hf dX5_digs_44 (fun v11 hf => ?_)
    refine sj_sipush (v := 173) dX5_digs_47 (by decide) ?_
    refine sj_iload_n 0 dX5_digs_50 rfl ?_
    refine sj_iadd dX5_digs_51 ?_
    refine sj_aload_n 2 dX5_digs_52 rfl ?_
    refine sj_getR fdX5_40_4 hf dX5_digs_53 (fun v12 hf => ?_)
    refine sj_bipush (v := 93) dX5_digs_56 (by decide) ?_
    refine sj_iload_n 1 dX5_digs_58 rfl ?_
    refine sj_iadd dX5_digs_59 ?_
    refine sj_iald hf dX5_digs_60 (fun v13 hf => ?_)
    refine sj_iconst (v := 1) dX5_digs_61 (by decide) ?_
    refine sj_icne 69 hf dX5_digs_62 (by decide) (fun g62 hf => ?_) (fun g62 hf => ?_)
    · refine sj_iconst (v := 2) dX5_digs_69 (by decide) ?_
      exact sj_loc [2, 0] rfl (sX5_digs_b70 l G a0 a1 ρ h2 cT a0 v4 2 ((173 : Int32) + v4) v11 _ _ hf)
    · refine sj_iconst (v := 1) dX5_digs_65 (by decide) ?_
      refine sj_goto 70 dX5_digs_66 (by decide) ?_
      exact sj_loc [2, 0] rfl (sX5_digs_b70 l G a0 a1 ρ h2 cT a0 v4 1 ((173 : Int32) + v4) v11 _ _ hf)
/-! SofaDigModel.dig(I)I -/
abbrev cX5_dig : ByteArray := prog_46_method_115_code
def yX5_dig : MethodName := ⟨RX5, "dig", "(I)I"⟩
def dkwX5_dig_0 : List UInt8 := [42, 27, 182, 1, 151, 153, 0, 11, 42, 27, 182, 0, 157, 167, 0, 4, 3, 172]
abbrev dktX5_dig_0 : List UInt8 := dkwX5_dig_0 ++ []
theorem dksX5_dig_0 : cX5_dig.data.toList.drop 0 = dktX5_dig_0 := by decide +kernel
theorem dX5_dig_0 : decode cX5_dig 0 = .ok (.aload_n 0, 1) := dk_42 (dk_at dksX5_dig_0 0 rfl rfl)
theorem dX5_dig_1 : decode cX5_dig 1 = .ok (.iload_n 1, 1) := dk_27 (dk_at dksX5_dig_0 1 rfl rfl)
theorem dX5_dig_2 : decode cX5_dig 2 = .ok (.invokevirtual 407, 3) := dk_182 1 151 (dk_at dksX5_dig_0 2 rfl rfl)
theorem dX5_dig_5 : decode cX5_dig 5 = .ok (.ifCond .eq 11, 3) := dk_153 0 11 (dk_at dksX5_dig_0 5 rfl rfl)
theorem dX5_dig_8 : decode cX5_dig 8 = .ok (.aload_n 0, 1) := dk_42 (dk_at dksX5_dig_0 8 rfl rfl)
theorem dX5_dig_9 : decode cX5_dig 9 = .ok (.iload_n 1, 1) := dk_27 (dk_at dksX5_dig_0 9 rfl rfl)
theorem dX5_dig_10 : decode cX5_dig 10 = .ok (.invokevirtual 157, 3) := dk_182 0 157 (dk_at dksX5_dig_0 10 rfl rfl)
theorem dX5_dig_13 : decode cX5_dig 13 = .ok (.goto 4, 3) := dk_167 0 4 (dk_at dksX5_dig_0 13 rfl rfl)
theorem dX5_dig_16 : decode cX5_dig 16 = .ok (.iconst 0, 1) := dk_3 (dk_at dksX5_dig_0 16 rfl rfl)
theorem dX5_dig_17 : decode cX5_dig 17 = .ok (.ireturn, 1) := dk_172 (dk_at dksX5_dig_0 17 rfl rfl)
abbrev mX5_dig : sd_Y := (yX5_dig, cX5_dig, 2, some (.int), none)
def fX5_dig (G : sd_G) (a0 : Nat) (a1 : Int32) : sd_M Int32 :=
  sd_bnd (sd_isC G 4 a0) fun _ =>
  sd_bnd (fX5_hasTop G a0 a1) fun r1 =>
  if r1 = 0 then (
    sd_ret 0)
  else (
    sd_bnd (sd_isC G 4 a0) fun _ =>
    sd_bnd (fX5_digs G a0 a1) fun r2 =>
    sd_ret r2)
set_option maxHeartbeats 4000000 in
theorem sX5_dig (l : Launch) (G : sd_G) (a0 : Nat) (a1 : Int32) (h : sd_H) (ρ : Int32) (cT : Nat × Nat) (h2 : sd_H) (hf : fX5_dig G a0 a1 h = some (ρ, cT, h2)) : sd_Met mX5_dig ((l, G), (6, 133), [.ref a0, .int a1], (sd_oI ρ, h2), cT) h := by
  refine sd_entry (plainFor_of_name rfl) rfl (Nat.le_of_ble_eq_true rfl) ?_
  show sd_J mX5_dig ((l, G), (6, 133), [.ref a0, .int a1], (sd_oI ρ, h2), cT) 0 [(0, .ref a0), (1, .int a1)] [] h cT
  unfold fX5_dig at hf
  refine sj_aload_n 0 dX5_dig_0 rfl ?_
  refine sj_iload_n 1 dX5_dig_1 rfl ?_
  obtain ⟨fs2, he2, hf⟩ := sd_isC_some hf
  refine sj_cI (rest := []) (fun _ _ _ e => sj_runV (n := 1) (As := [.int a1]) (rest := []) (sX5_hasTop l G a0 a1 h _ _ _ e) he2 rfl rfl rfl rfl q3198 q3200 qs88 q127 q3201 (by decide +kernel) rfl rfl ⟨Nat.le_of_ble_eq_true rfl, Nat.le_of_ble_eq_true rfl⟩ rfl (Nat.le_of_ble_eq_true rfl) dX5_dig_2) hf (fun r1 h c hf => ?_)
  refine sj_ifeq 16 hf dX5_dig_5 (by decide) (fun g5 hf => ?_) (fun g5 hf => ?_)
  · refine sj_iconst (v := 0) dX5_dig_16 (by decide) ?_
    exact sj_iret (o := sd_oI) hf rfl rfl rfl dX5_dig_17
  · refine sj_aload_n 0 dX5_dig_8 rfl ?_
    refine sj_iload_n 1 dX5_dig_9 rfl ?_
    obtain ⟨fs10, he10, hf⟩ := sd_isC_some hf
    refine sj_cI (rest := []) (fun _ _ _ e => sj_runV (n := 1) (As := [.int a1]) (rest := []) (sX5_digs l G a0 a1 h _ _ _ e) he10 rfl rfl rfl rfl q3303 q3305 qs100 q127 q3306 (by decide +kernel) rfl rfl ⟨Nat.le_of_ble_eq_true rfl, Nat.le_of_ble_eq_true rfl⟩ rfl (Nat.le_of_ble_eq_true rfl) dX5_dig_10) hf (fun r2 h c hf => ?_)
    refine sj_goto 17 dX5_dig_13 (by decide) ?_
    exact sj_iret (o := sd_oI) hf rfl rfl rfl dX5_dig_17
/-! SofaDigModel.isPropped3()Z -/
abbrev cX5_isPropped3 : ByteArray := prog_46_method_30_code
def yX5_isPropped3 : MethodName := ⟨RX5, "isPropped3", "()Z"⟩
def dkwX5_isPropped3_0 : List UInt8 := [42, 180, 0, 40, 7, 46, 184, 0, 143, 6, 161, 0, 7, 4, 167, 0, 4, 3, 172]
abbrev dktX5_isPropped3_0 : List UInt8 := dkwX5_isPropped3_0 ++ []
theorem dksX5_isPropped3_0 : cX5_isPropped3.data.toList.drop 0 = dktX5_isPropped3_0 := by decide +kernel
theorem dX5_isPropped3_0 : decode cX5_isPropped3 0 = .ok (.aload_n 0, 1) := dk_42 (dk_at dksX5_isPropped3_0 0 rfl rfl)
theorem dX5_isPropped3_1 : decode cX5_isPropped3 1 = .ok (.getfield 40, 3) := dk_180 0 40 (dk_at dksX5_isPropped3_0 1 rfl rfl)
theorem dX5_isPropped3_4 : decode cX5_isPropped3 4 = .ok (.iconst 4, 1) := dk_7 (dk_at dksX5_isPropped3_0 4 rfl rfl)
theorem dX5_isPropped3_5 : decode cX5_isPropped3 5 = .ok (.iaload, 1) := dk_46 (dk_at dksX5_isPropped3_0 5 rfl rfl)
theorem dX5_isPropped3_6 : decode cX5_isPropped3 6 = .ok (.invokestatic 143, 3) := dk_184 0 143 (dk_at dksX5_isPropped3_0 6 rfl rfl)
theorem dX5_isPropped3_9 : decode cX5_isPropped3 9 = .ok (.iconst 3, 1) := dk_6 (dk_at dksX5_isPropped3_0 9 rfl rfl)
theorem dX5_isPropped3_10 : decode cX5_isPropped3 10 = .ok (.if_icmp .lt 7, 3) := dk_161 0 7 (dk_at dksX5_isPropped3_0 10 rfl rfl)
theorem dX5_isPropped3_13 : decode cX5_isPropped3 13 = .ok (.iconst 1, 1) := dk_4 (dk_at dksX5_isPropped3_0 13 rfl rfl)
theorem dX5_isPropped3_14 : decode cX5_isPropped3 14 = .ok (.goto 4, 3) := dk_167 0 4 (dk_at dksX5_isPropped3_0 14 rfl rfl)
theorem dX5_isPropped3_17 : decode cX5_isPropped3 17 = .ok (.iconst 0, 1) := dk_3 (dk_at dksX5_isPropped3_0 17 rfl rfl)
theorem dX5_isPropped3_18 : decode cX5_isPropped3 18 = .ok (.ireturn, 1) := dk_172 (dk_at dksX5_isPropped3_0 18 rfl rfl)
abbrev mX5_isPropped3 : sd_Y := (yX5_isPropped3, cX5_isPropped3, 1, some (.boolean), none)
def fX5_isPropped3 (G : sd_G) (a0 : Nat) : sd_M Int32 :=
  sd_bnd (sd_getR G 4 15 a0) fun v1 =>
  sd_bnd (sd_aldI G 0 v1 4) fun v2 =>
  sd_bnd (fJ19_bitCount G v2) fun r3 =>
  if r3 < 3 then (
    sd_ret 0)
  else (
    sd_ret 1)
set_option maxHeartbeats 4000000 in
theorem sX5_isPropped3 (l : Launch) (G : sd_G) (a0 : Nat) (h : sd_H) (ρ : Int32) (cT : Nat × Nat) (h2 : sd_H) (hf : fX5_isPropped3 G a0 h = some (ρ, cT, h2)) : sd_Met mX5_isPropped3 ((l, G), (1, 20), [.ref a0], (sd_oI ρ, h2), cT) h := by
  refine sd_entry (plainFor_of_name rfl) rfl (Nat.le_of_ble_eq_true rfl) ?_
  show sd_J mX5_isPropped3 ((l, G), (1, 20), [.ref a0], (sd_oI ρ, h2), cT) 0 [(0, .ref a0)] [] h cT
  unfold fX5_isPropped3 at hf
  refine sj_aload_n 0 dX5_isPropped3_0 rfl ?_
  refine sj_getR fdX5_40_4 hf dX5_isPropped3_1 (fun v1 hf => ?_)
  refine sj_iconst (v := 4) dX5_isPropped3_4 (by decide) ?_
  refine sj_iald hf dX5_isPropped3_5 (fun v2 hf => ?_)
  refine sj_cI (rest := []) (fun _ _ _ e => sj_runS (n := 1) (rest := []) (sJ19_bitCount l G v2 h _ _ _ e) rfl rfl q3164 q3165 q146 q3166 (by decide +kernel) rfl ⟨Nat.le_of_ble_eq_true rfl, Nat.le_of_ble_eq_true rfl⟩ rfl (Nat.le_of_ble_eq_true rfl) dX5_isPropped3_6) hf (fun r3 h c hf => ?_)
  refine sj_iconst (v := 3) dX5_isPropped3_9 (by decide) ?_
  refine sj_iclt 17 hf dX5_isPropped3_10 (by decide) (fun g10 hf => ?_) (fun g10 hf => ?_)
  · refine sj_iconst (v := 0) dX5_isPropped3_17 (by decide) ?_
    exact sj_zretC (o := sd_oI) (ty := .boolean) rfl hf rfl rfl rfl dX5_isPropped3_18
  · refine sj_iconst (v := 1) dX5_isPropped3_13 (by decide) ?_
    refine sj_goto 18 dX5_isPropped3_14 (by decide) ?_
    exact sj_zretC (o := sd_oI) (ty := .boolean) rfl hf rfl rfl rfl dX5_isPropped3_18
/-! SofaDigModel.prop(I)I -/
abbrev cX5_prop : ByteArray := prog_46_method_116_code
def yX5_prop : MethodName := ⟨RX5, "prop", "(I)I"⟩
def dkwX5_prop_2 : List UInt8 := [27, 120, 128, 79, 42, 180, 0, 40, 7, 46, 184, 0, 143, 172]
abbrev dktX5_prop_2 : List UInt8 := dkwX5_prop_2 ++ []
def dkwX5_prop_1 : List UInt8 := [154, 0, 10, 42, 182, 0, 160, 153, 0, 9, 42, 5, 182, 1, 139, 172, 42, 180, 0, 40, 7, 92, 46, 4]
abbrev dktX5_prop_1 : List UInt8 := dkwX5_prop_1 ++ dktX5_prop_2
def dkwX5_prop_0 : List UInt8 := [42, 3, 181, 0, 58, 42, 27, 182, 0, 78, 154, 0, 9, 42, 4, 182, 1, 139, 172, 42, 27, 182, 0, 82]
abbrev dktX5_prop_0 : List UInt8 := dkwX5_prop_0 ++ dktX5_prop_1
theorem dksX5_prop_0 : cX5_prop.data.toList.drop 0 = dktX5_prop_0 := by decide +kernel
theorem dksX5_prop_1 : cX5_prop.data.toList.drop 24 = dktX5_prop_1 := dk_seg dksX5_prop_0 24 rfl rfl
theorem dksX5_prop_2 : cX5_prop.data.toList.drop 48 = dktX5_prop_2 := dk_seg dksX5_prop_1 24 rfl rfl
theorem dX5_prop_0 : decode cX5_prop 0 = .ok (.aload_n 0, 1) := dk_42 (dk_at dksX5_prop_0 0 rfl rfl)
theorem dX5_prop_1 : decode cX5_prop 1 = .ok (.iconst 0, 1) := dk_3 (dk_at dksX5_prop_0 1 rfl rfl)
theorem dX5_prop_2 : decode cX5_prop 2 = .ok (.putfield 58, 3) := dk_181 0 58 (dk_at dksX5_prop_0 2 rfl rfl)
theorem dX5_prop_5 : decode cX5_prop 5 = .ok (.aload_n 0, 1) := dk_42 (dk_at dksX5_prop_0 5 rfl rfl)
theorem dX5_prop_6 : decode cX5_prop 6 = .ok (.iload_n 1, 1) := dk_27 (dk_at dksX5_prop_0 6 rfl rfl)
theorem dX5_prop_7 : decode cX5_prop 7 = .ok (.invokevirtual 78, 3) := dk_182 0 78 (dk_at dksX5_prop_0 7 rfl rfl)
theorem dX5_prop_10 : decode cX5_prop 10 = .ok (.ifCond .ne 9, 3) := dk_154 0 9 (dk_at dksX5_prop_0 10 rfl rfl)
theorem dX5_prop_13 : decode cX5_prop 13 = .ok (.aload_n 0, 1) := dk_42 (dk_at dksX5_prop_0 13 rfl rfl)
theorem dX5_prop_14 : decode cX5_prop 14 = .ok (.iconst 1, 1) := dk_4 (dk_at dksX5_prop_0 14 rfl rfl)
theorem dX5_prop_15 : decode cX5_prop 15 = .ok (.invokevirtual 395, 3) := dk_182 1 139 (dk_at dksX5_prop_0 15 rfl rfl)
theorem dX5_prop_18 : decode cX5_prop 18 = .ok (.ireturn, 1) := dk_172 (dk_at dksX5_prop_0 18 rfl rfl)
theorem dX5_prop_19 : decode cX5_prop 19 = .ok (.aload_n 0, 1) := dk_42 (dk_at dksX5_prop_0 19 rfl rfl)
theorem dX5_prop_20 : decode cX5_prop 20 = .ok (.iload_n 1, 1) := dk_27 (dk_at dksX5_prop_0 20 rfl rfl)
theorem dX5_prop_21 : decode cX5_prop 21 = .ok (.invokevirtual 82, 3) := dk_182 0 82 (dk_at dksX5_prop_0 21 rfl rfl)
theorem dX5_prop_24 : decode cX5_prop 24 = .ok (.ifCond .ne 10, 3) := dk_154 0 10 (dk_at dksX5_prop_1 0 rfl rfl)
theorem dX5_prop_27 : decode cX5_prop 27 = .ok (.aload_n 0, 1) := dk_42 (dk_at dksX5_prop_1 3 rfl rfl)
theorem dX5_prop_28 : decode cX5_prop 28 = .ok (.invokevirtual 160, 3) := dk_182 0 160 (dk_at dksX5_prop_1 4 rfl rfl)
theorem dX5_prop_31 : decode cX5_prop 31 = .ok (.ifCond .eq 9, 3) := dk_153 0 9 (dk_at dksX5_prop_1 7 rfl rfl)
theorem dX5_prop_34 : decode cX5_prop 34 = .ok (.aload_n 0, 1) := dk_42 (dk_at dksX5_prop_1 10 rfl rfl)
theorem dX5_prop_35 : decode cX5_prop 35 = .ok (.iconst 2, 1) := dk_5 (dk_at dksX5_prop_1 11 rfl rfl)
theorem dX5_prop_36 : decode cX5_prop 36 = .ok (.invokevirtual 395, 3) := dk_182 1 139 (dk_at dksX5_prop_1 12 rfl rfl)
theorem dX5_prop_39 : decode cX5_prop 39 = .ok (.ireturn, 1) := dk_172 (dk_at dksX5_prop_1 15 rfl rfl)
theorem dX5_prop_40 : decode cX5_prop 40 = .ok (.aload_n 0, 1) := dk_42 (dk_at dksX5_prop_1 16 rfl rfl)
theorem dX5_prop_41 : decode cX5_prop 41 = .ok (.getfield 40, 3) := dk_180 0 40 (dk_at dksX5_prop_1 17 rfl rfl)
theorem dX5_prop_44 : decode cX5_prop 44 = .ok (.iconst 4, 1) := dk_7 (dk_at dksX5_prop_1 20 rfl rfl)
theorem dX5_prop_45 : decode cX5_prop 45 = .ok (.dup2, 1) := dk_92 (dk_at dksX5_prop_1 21 rfl rfl)
theorem dX5_prop_46 : decode cX5_prop 46 = .ok (.iaload, 1) := dk_46 (dk_at dksX5_prop_1 22 rfl rfl)
theorem dX5_prop_47 : decode cX5_prop 47 = .ok (.iconst 1, 1) := dk_4 (dk_at dksX5_prop_1 23 rfl rfl)
theorem dX5_prop_48 : decode cX5_prop 48 = .ok (.iload_n 1, 1) := dk_27 (dk_at dksX5_prop_2 0 rfl rfl)
theorem dX5_prop_49 : decode cX5_prop 49 = .ok (.ishl, 1) := dk_120 (dk_at dksX5_prop_2 1 rfl rfl)
theorem dX5_prop_50 : decode cX5_prop 50 = .ok (.ior, 1) := dk_128 (dk_at dksX5_prop_2 2 rfl rfl)
theorem dX5_prop_51 : decode cX5_prop 51 = .ok (.iastore, 1) := dk_79 (dk_at dksX5_prop_2 3 rfl rfl)
theorem dX5_prop_52 : decode cX5_prop 52 = .ok (.aload_n 0, 1) := dk_42 (dk_at dksX5_prop_2 4 rfl rfl)
theorem dX5_prop_53 : decode cX5_prop 53 = .ok (.getfield 40, 3) := dk_180 0 40 (dk_at dksX5_prop_2 5 rfl rfl)
theorem dX5_prop_56 : decode cX5_prop 56 = .ok (.iconst 4, 1) := dk_7 (dk_at dksX5_prop_2 8 rfl rfl)
theorem dX5_prop_57 : decode cX5_prop 57 = .ok (.iaload, 1) := dk_46 (dk_at dksX5_prop_2 9 rfl rfl)
theorem dX5_prop_58 : decode cX5_prop 58 = .ok (.invokestatic 143, 3) := dk_184 0 143 (dk_at dksX5_prop_2 10 rfl rfl)
theorem dX5_prop_61 : decode cX5_prop 61 = .ok (.ireturn, 1) := dk_172 (dk_at dksX5_prop_2 13 rfl rfl)
abbrev mX5_prop : sd_Y := (yX5_prop, cX5_prop, 2, some (.int), none)
def fX5_prop (G : sd_G) (a0 : Nat) (a1 : Int32) : sd_M Int32 :=
  sd_bnd (sd_put 4 0 .int a0 (.int 0)) fun _ =>
  sd_bnd (sd_isC G 4 a0) fun _ =>
  sd_bnd (fX5_isSeat G a0 a1) fun r1 =>
  if r1 = 0 then (
    sd_bnd (sd_isC G 4 a0) fun _ =>
    sd_bnd (fX5_no G a0 1) fun r11 =>
    sd_ret r11)
  else (
    sd_bnd (sd_isC G 4 a0) fun _ =>
    sd_bnd (fX5_hasProp G a0 a1) fun r2 =>
    if r2 = 0 then (
      sd_bnd (sd_isC G 4 a0) fun _ =>
      sd_bnd (fX5_isPropped3 G a0) fun r4 =>
      if r4 = 0 then (
        sd_bnd (sd_getR G 4 15 a0) fun v5 =>
        sd_bnd (sd_aldI G 0 v5 4) fun v6 =>
        sd_bnd (sd_astI 0 v5 4 (v6 ||| ((1 : Int32) <<< (a1 &&& 31)))) fun _ =>
        sd_bnd (sd_getR G 4 15 a0) fun v7 =>
        sd_bnd (sd_aldI G 0 v7 4) fun v8 =>
        sd_bnd (fJ19_bitCount G v8) fun r9 =>
        sd_ret r9)
      else (
        sd_bnd (sd_isC G 4 a0) fun _ =>
        sd_bnd (fX5_no G a0 2) fun r10 =>
        sd_ret r10))
    else (
      sd_bnd (sd_isC G 4 a0) fun _ =>
      sd_bnd (fX5_no G a0 2) fun r3 =>
      sd_ret r3))
set_option maxHeartbeats 4000000 in
theorem sX5_prop (l : Launch) (G : sd_G) (a0 : Nat) (a1 : Int32) (h : sd_H) (ρ : Int32) (cT : Nat × Nat) (h2 : sd_H) (hf : fX5_prop G a0 a1 h = some (ρ, cT, h2)) : sd_Met mX5_prop ((l, G), (2, 43), [.ref a0, .int a1], (sd_oI ρ, h2), cT) h := by
  refine sd_entry (plainFor_of_name rfl) rfl (Nat.le_of_ble_eq_true rfl) ?_
  show sd_J mX5_prop ((l, G), (2, 43), [.ref a0, .int a1], (sd_oI ρ, h2), cT) 0 [(0, .ref a0), (1, .int a1)] [] h cT
  unfold fX5_prop at hf
  refine sj_aload_n 0 dX5_prop_0 rfl ?_
  refine sj_iconst (v := 0) dX5_prop_1 (by decide) ?_
  refine sj_put (fpX5_58_4 _ _) hf dX5_prop_2 (fun h hf => ?_)
  refine sj_aload_n 0 dX5_prop_5 rfl ?_
  refine sj_iload_n 1 dX5_prop_6 rfl ?_
  obtain ⟨fs7, he7, hf⟩ := sd_isC_some hf
  refine sj_cI (rest := []) (fun _ _ _ e => sj_runV (n := 1) (As := [.int a1]) (rest := []) (sX5_isSeat l G a0 a1 h _ _ _ e) he7 rfl rfl rfl rfl q3174 q3176 qs84 q127 q3177 (by decide +kernel) rfl rfl ⟨Nat.le_of_ble_eq_true rfl, Nat.le_of_ble_eq_true rfl⟩ rfl (Nat.le_of_ble_eq_true rfl) dX5_prop_7) hf (fun r1 h c hf => ?_)
  refine sj_ifne 19 hf dX5_prop_10 (by decide) (fun g10 hf => ?_) (fun g10 hf => ?_)
  · refine sj_aload_n 0 dX5_prop_19 rfl ?_
    refine sj_iload_n 1 dX5_prop_20 rfl ?_
    obtain ⟨fs21, he21, hf⟩ := sd_isC_some hf
    refine sj_cI (rest := []) (fun _ _ _ e => sj_runV (n := 1) (As := [.int a1]) (rest := []) (sX5_hasProp l G a0 a1 h _ _ _ e) he21 rfl rfl rfl rfl q3186 q3188 qs86 q127 q3189 (by decide +kernel) rfl rfl ⟨Nat.le_of_ble_eq_true rfl, Nat.le_of_ble_eq_true rfl⟩ rfl (Nat.le_of_ble_eq_true rfl) dX5_prop_21) hf (fun r2 h c hf => ?_)
    refine sj_ifne 34 hf dX5_prop_24 (by decide) (fun g24 hf => ?_) (fun g24 hf => ?_)
    · refine sj_aload_n 0 dX5_prop_34 rfl ?_
      refine sj_iconst (v := 2) dX5_prop_35 (by decide) ?_
      obtain ⟨fs36, he36, hf⟩ := sd_isC_some hf
      refine sj_cI (rest := []) (fun _ _ _ e => sj_runV (n := 1) (As := [.int 2]) (rest := []) (sX5_no l G a0 2 h _ _ _ e) he36 rfl rfl rfl rfl q2913 q2915 qs42 q127 q2916 (by decide +kernel) rfl rfl ⟨Nat.le_of_ble_eq_true rfl, Nat.le_of_ble_eq_true rfl⟩ rfl (Nat.le_of_ble_eq_true rfl) dX5_prop_36) hf (fun r3 h c hf => ?_)
      exact sj_iret (o := sd_oI) hf rfl rfl rfl dX5_prop_39
    · refine sj_aload_n 0 dX5_prop_27 rfl ?_
      obtain ⟨fs28, he28, hf⟩ := sd_isC_some hf
      refine sj_cI (rest := []) (fun _ _ _ e => sj_runV (n := 0) (As := []) (rest := []) (sX5_isPropped3 l G a0 h _ _ _ e) he28 rfl rfl rfl rfl q3323 q3325 qs104 q127 q3326 (by decide +kernel) rfl rfl ⟨Nat.le_of_ble_eq_true rfl, Nat.le_of_ble_eq_true rfl⟩ rfl (Nat.le_of_ble_eq_true rfl) dX5_prop_28) hf (fun r4 h c hf => ?_)
      refine sj_ifeq 40 hf dX5_prop_31 (by decide) (fun g31 hf => ?_) (fun g31 hf => ?_)
      · refine sj_aload_n 0 dX5_prop_40 rfl ?_
        refine sj_getR fdX5_40_4 hf dX5_prop_41 (fun v5 hf => ?_)
        refine sj_iconst (v := 4) dX5_prop_44 (by decide) ?_
        refine sj_dup2 dX5_prop_45 rfl rfl ?_
        refine sj_iald hf dX5_prop_46 (fun v6 hf => ?_)
        refine sj_iconst (v := 1) dX5_prop_47 (by decide) ?_
        refine sj_iload_n 1 dX5_prop_48 rfl ?_
        refine sj_ishl dX5_prop_49 ?_
        refine sj_ior dX5_prop_50 ?_
        refine sj_iast hf dX5_prop_51 (fun h hf => ?_)
        refine sj_aload_n 0 dX5_prop_52 rfl ?_
        refine sj_getR fdX5_40_4 hf dX5_prop_53 (fun v7 hf => ?_)
        refine sj_iconst (v := 4) dX5_prop_56 (by decide) ?_
        refine sj_iald hf dX5_prop_57 (fun v8 hf => ?_)
        refine sj_cI (rest := []) (fun _ _ _ e => sj_runS (n := 1) (rest := []) (sJ19_bitCount l G v8 h _ _ _ e) rfl rfl q3164 q3165 q146 q3166 (by decide +kernel) rfl ⟨Nat.le_of_ble_eq_true rfl, Nat.le_of_ble_eq_true rfl⟩ rfl (Nat.le_of_ble_eq_true rfl) dX5_prop_58) hf (fun r9 h c hf => ?_)
        exact sj_iret (o := sd_oI) hf rfl rfl rfl dX5_prop_61
      · refine sj_aload_n 0 dX5_prop_34 rfl ?_
        refine sj_iconst (v := 2) dX5_prop_35 (by decide) ?_
        obtain ⟨fs36, he36, hf⟩ := sd_isC_some hf
        refine sj_cI (rest := []) (fun _ _ _ e => sj_runV (n := 1) (As := [.int 2]) (rest := []) (sX5_no l G a0 2 h _ _ _ e) he36 rfl rfl rfl rfl q2913 q2915 qs42 q127 q2916 (by decide +kernel) rfl rfl ⟨Nat.le_of_ble_eq_true rfl, Nat.le_of_ble_eq_true rfl⟩ rfl (Nat.le_of_ble_eq_true rfl) dX5_prop_36) hf (fun r10 h c hf => ?_)
        exact sj_iret (o := sd_oI) hf rfl rfl rfl dX5_prop_39
  · refine sj_aload_n 0 dX5_prop_13 rfl ?_
    refine sj_iconst (v := 1) dX5_prop_14 (by decide) ?_
    obtain ⟨fs15, he15, hf⟩ := sd_isC_some hf
    refine sj_cI (rest := []) (fun _ _ _ e => sj_runV (n := 1) (As := [.int 1]) (rest := []) (sX5_no l G a0 1 h _ _ _ e) he15 rfl rfl rfl rfl q2913 q2915 qs42 q127 q2916 (by decide +kernel) rfl rfl ⟨Nat.le_of_ble_eq_true rfl, Nat.le_of_ble_eq_true rfl⟩ rfl (Nat.le_of_ble_eq_true rfl) dX5_prop_15) hf (fun r11 h c hf => ?_)
    exact sj_iret (o := sd_oI) hf rfl rfl rfl dX5_prop_18
/-! SofaDigModel.takeProp(I)I -/
abbrev cX5_takeProp : ByteArray := prog_46_method_117_code
def yX5_takeProp : MethodName := ⟨RX5, "takeProp", "(I)I"⟩
def dkwX5_takeProp_2 : List UInt8 := [182, 0, 103, 172]
abbrev dktX5_takeProp_2 : List UInt8 := dkwX5_takeProp_2 ++ []
def dkwX5_takeProp_1 : List UInt8 := [154, 0, 9, 42, 5, 182, 1, 139, 172, 42, 180, 0, 40, 7, 92, 46, 4, 27, 120, 2, 130, 126, 79, 42]
abbrev dktX5_takeProp_1 : List UInt8 := dkwX5_takeProp_1 ++ dktX5_takeProp_2
def dkwX5_takeProp_0 : List UInt8 := [42, 3, 181, 0, 58, 42, 27, 182, 0, 78, 154, 0, 9, 42, 4, 182, 1, 139, 172, 42, 27, 182, 0, 82]
abbrev dktX5_takeProp_0 : List UInt8 := dkwX5_takeProp_0 ++ dktX5_takeProp_1
theorem dksX5_takeProp_0 : cX5_takeProp.data.toList.drop 0 = dktX5_takeProp_0 := by decide +kernel
theorem dksX5_takeProp_1 : cX5_takeProp.data.toList.drop 24 = dktX5_takeProp_1 := dk_seg dksX5_takeProp_0 24 rfl rfl
theorem dksX5_takeProp_2 : cX5_takeProp.data.toList.drop 48 = dktX5_takeProp_2 := dk_seg dksX5_takeProp_1 24 rfl rfl
theorem dX5_takeProp_0 : decode cX5_takeProp 0 = .ok (.aload_n 0, 1) := dk_42 (dk_at dksX5_takeProp_0 0 rfl rfl)
theorem dX5_takeProp_1 : decode cX5_takeProp 1 = .ok (.iconst 0, 1) := dk_3 (dk_at dksX5_takeProp_0 1 rfl rfl)
theorem dX5_takeProp_2 : decode cX5_takeProp 2 = .ok (.putfield 58, 3) := dk_181 0 58 (dk_at dksX5_takeProp_0 2 rfl rfl)
theorem dX5_takeProp_5 : decode cX5_takeProp 5 = .ok (.aload_n 0, 1) := dk_42 (dk_at dksX5_takeProp_0 5 rfl rfl)
theorem dX5_takeProp_6 : decode cX5_takeProp 6 = .ok (.iload_n 1, 1) := dk_27 (dk_at dksX5_takeProp_0 6 rfl rfl)
theorem dX5_takeProp_7 : decode cX5_takeProp 7 = .ok (.invokevirtual 78, 3) := dk_182 0 78 (dk_at dksX5_takeProp_0 7 rfl rfl)
theorem dX5_takeProp_10 : decode cX5_takeProp 10 = .ok (.ifCond .ne 9, 3) := dk_154 0 9 (dk_at dksX5_takeProp_0 10 rfl rfl)
theorem dX5_takeProp_13 : decode cX5_takeProp 13 = .ok (.aload_n 0, 1) := dk_42 (dk_at dksX5_takeProp_0 13 rfl rfl)
theorem dX5_takeProp_14 : decode cX5_takeProp 14 = .ok (.iconst 1, 1) := dk_4 (dk_at dksX5_takeProp_0 14 rfl rfl)
theorem dX5_takeProp_15 : decode cX5_takeProp 15 = .ok (.invokevirtual 395, 3) := dk_182 1 139 (dk_at dksX5_takeProp_0 15 rfl rfl)
theorem dX5_takeProp_18 : decode cX5_takeProp 18 = .ok (.ireturn, 1) := dk_172 (dk_at dksX5_takeProp_0 18 rfl rfl)
theorem dX5_takeProp_19 : decode cX5_takeProp 19 = .ok (.aload_n 0, 1) := dk_42 (dk_at dksX5_takeProp_0 19 rfl rfl)
theorem dX5_takeProp_20 : decode cX5_takeProp 20 = .ok (.iload_n 1, 1) := dk_27 (dk_at dksX5_takeProp_0 20 rfl rfl)
theorem dX5_takeProp_21 : decode cX5_takeProp 21 = .ok (.invokevirtual 82, 3) := dk_182 0 82 (dk_at dksX5_takeProp_0 21 rfl rfl)
theorem dX5_takeProp_24 : decode cX5_takeProp 24 = .ok (.ifCond .ne 9, 3) := dk_154 0 9 (dk_at dksX5_takeProp_1 0 rfl rfl)
theorem dX5_takeProp_27 : decode cX5_takeProp 27 = .ok (.aload_n 0, 1) := dk_42 (dk_at dksX5_takeProp_1 3 rfl rfl)
theorem dX5_takeProp_28 : decode cX5_takeProp 28 = .ok (.iconst 2, 1) := dk_5 (dk_at dksX5_takeProp_1 4 rfl rfl)
theorem dX5_takeProp_29 : decode cX5_takeProp 29 = .ok (.invokevirtual 395, 3) := dk_182 1 139 (dk_at dksX5_takeProp_1 5 rfl rfl)
theorem dX5_takeProp_32 : decode cX5_takeProp 32 = .ok (.ireturn, 1) := dk_172 (dk_at dksX5_takeProp_1 8 rfl rfl)
theorem dX5_takeProp_33 : decode cX5_takeProp 33 = .ok (.aload_n 0, 1) := dk_42 (dk_at dksX5_takeProp_1 9 rfl rfl)
theorem dX5_takeProp_34 : decode cX5_takeProp 34 = .ok (.getfield 40, 3) := dk_180 0 40 (dk_at dksX5_takeProp_1 10 rfl rfl)
theorem dX5_takeProp_37 : decode cX5_takeProp 37 = .ok (.iconst 4, 1) := dk_7 (dk_at dksX5_takeProp_1 13 rfl rfl)
theorem dX5_takeProp_38 : decode cX5_takeProp 38 = .ok (.dup2, 1) := dk_92 (dk_at dksX5_takeProp_1 14 rfl rfl)
theorem dX5_takeProp_39 : decode cX5_takeProp 39 = .ok (.iaload, 1) := dk_46 (dk_at dksX5_takeProp_1 15 rfl rfl)
theorem dX5_takeProp_40 : decode cX5_takeProp 40 = .ok (.iconst 1, 1) := dk_4 (dk_at dksX5_takeProp_1 16 rfl rfl)
theorem dX5_takeProp_41 : decode cX5_takeProp 41 = .ok (.iload_n 1, 1) := dk_27 (dk_at dksX5_takeProp_1 17 rfl rfl)
theorem dX5_takeProp_42 : decode cX5_takeProp 42 = .ok (.ishl, 1) := dk_120 (dk_at dksX5_takeProp_1 18 rfl rfl)
theorem dX5_takeProp_43 : decode cX5_takeProp 43 = .ok (.iconst (-1), 1) := dk_2 (dk_at dksX5_takeProp_1 19 rfl rfl)
theorem dX5_takeProp_44 : decode cX5_takeProp 44 = .ok (.ixor, 1) := dk_130 (dk_at dksX5_takeProp_1 20 rfl rfl)
theorem dX5_takeProp_45 : decode cX5_takeProp 45 = .ok (.iand, 1) := dk_126 (dk_at dksX5_takeProp_1 21 rfl rfl)
theorem dX5_takeProp_46 : decode cX5_takeProp 46 = .ok (.iastore, 1) := dk_79 (dk_at dksX5_takeProp_1 22 rfl rfl)
theorem dX5_takeProp_47 : decode cX5_takeProp 47 = .ok (.aload_n 0, 1) := dk_42 (dk_at dksX5_takeProp_1 23 rfl rfl)
theorem dX5_takeProp_48 : decode cX5_takeProp 48 = .ok (.invokevirtual 103, 3) := dk_182 0 103 (dk_at dksX5_takeProp_2 0 rfl rfl)
theorem dX5_takeProp_51 : decode cX5_takeProp 51 = .ok (.ireturn, 1) := dk_172 (dk_at dksX5_takeProp_2 3 rfl rfl)
abbrev mX5_takeProp : sd_Y := (yX5_takeProp, cX5_takeProp, 2, some (.int), none)
def fX5_takeProp (G : sd_G) (a0 : Nat) (a1 : Int32) : sd_M Int32 :=
  sd_bnd (sd_put 4 0 .int a0 (.int 0)) fun _ =>
  sd_bnd (sd_isC G 4 a0) fun _ =>
  sd_bnd (fX5_isSeat G a0 a1) fun r1 =>
  if r1 = 0 then (
    sd_bnd (sd_isC G 4 a0) fun _ =>
    sd_bnd (fX5_no G a0 1) fun r7 =>
    sd_ret r7)
  else (
    sd_bnd (sd_isC G 4 a0) fun _ =>
    sd_bnd (fX5_hasProp G a0 a1) fun r2 =>
    if r2 = 0 then (
      sd_bnd (sd_isC G 4 a0) fun _ =>
      sd_bnd (fX5_no G a0 2) fun r6 =>
      sd_ret r6)
    else (
      sd_bnd (sd_getR G 4 15 a0) fun v3 =>
      sd_bnd (sd_aldI G 0 v3 4) fun v4 =>
      sd_bnd (sd_astI 0 v3 4 (v4 &&& (((1 : Int32) <<< (a1 &&& 31)) ^^^ (-1)))) fun _ =>
      sd_bnd (sd_isC G 4 a0) fun _ =>
      sd_bnd (fX5_settle_2 G a0) fun r5 =>
      sd_ret r5))
set_option maxHeartbeats 4000000 in
theorem sX5_takeProp (l : Launch) (G : sd_G) (a0 : Nat) (a1 : Int32) (h : sd_H) (ρ : Int32) (cT : Nat × Nat) (h2 : sd_H) (hf : fX5_takeProp G a0 a1 h = some (ρ, cT, h2)) : sd_Met mX5_takeProp ((l, G), (5, 110), [.ref a0, .int a1], (sd_oI ρ, h2), cT) h := by
  refine sd_entry (plainFor_of_name rfl) rfl (Nat.le_of_ble_eq_true rfl) ?_
  show sd_J mX5_takeProp ((l, G), (5, 110), [.ref a0, .int a1], (sd_oI ρ, h2), cT) 0 [(0, .ref a0), (1, .int a1)] [] h cT
  unfold fX5_takeProp at hf
  refine sj_aload_n 0 dX5_takeProp_0 rfl ?_
  refine sj_iconst (v := 0) dX5_takeProp_1 (by decide) ?_
  refine sj_put (fpX5_58_4 _ _) hf dX5_takeProp_2 (fun h hf => ?_)
  refine sj_aload_n 0 dX5_takeProp_5 rfl ?_
  refine sj_iload_n 1 dX5_takeProp_6 rfl ?_
  obtain ⟨fs7, he7, hf⟩ := sd_isC_some hf
  refine sj_cI (rest := []) (fun _ _ _ e => sj_runV (n := 1) (As := [.int a1]) (rest := []) (sX5_isSeat l G a0 a1 h _ _ _ e) he7 rfl rfl rfl rfl q3174 q3176 qs84 q127 q3177 (by decide +kernel) rfl rfl ⟨Nat.le_of_ble_eq_true rfl, Nat.le_of_ble_eq_true rfl⟩ rfl (Nat.le_of_ble_eq_true rfl) dX5_takeProp_7) hf (fun r1 h c hf => ?_)
  refine sj_ifne 19 hf dX5_takeProp_10 (by decide) (fun g10 hf => ?_) (fun g10 hf => ?_)
  · refine sj_aload_n 0 dX5_takeProp_19 rfl ?_
    refine sj_iload_n 1 dX5_takeProp_20 rfl ?_
    obtain ⟨fs21, he21, hf⟩ := sd_isC_some hf
    refine sj_cI (rest := []) (fun _ _ _ e => sj_runV (n := 1) (As := [.int a1]) (rest := []) (sX5_hasProp l G a0 a1 h _ _ _ e) he21 rfl rfl rfl rfl q3186 q3188 qs86 q127 q3189 (by decide +kernel) rfl rfl ⟨Nat.le_of_ble_eq_true rfl, Nat.le_of_ble_eq_true rfl⟩ rfl (Nat.le_of_ble_eq_true rfl) dX5_takeProp_21) hf (fun r2 h c hf => ?_)
    refine sj_ifne 33 hf dX5_takeProp_24 (by decide) (fun g24 hf => ?_) (fun g24 hf => ?_)
    · refine sj_aload_n 0 dX5_takeProp_33 rfl ?_
      refine sj_getR fdX5_40_4 hf dX5_takeProp_34 (fun v3 hf => ?_)
      refine sj_iconst (v := 4) dX5_takeProp_37 (by decide) ?_
      refine sj_dup2 dX5_takeProp_38 rfl rfl ?_
      refine sj_iald hf dX5_takeProp_39 (fun v4 hf => ?_)
      refine sj_iconst (v := 1) dX5_takeProp_40 (by decide) ?_
      refine sj_iload_n 1 dX5_takeProp_41 rfl ?_
      refine sj_ishl dX5_takeProp_42 ?_
      refine sj_iconst (v := (-1)) dX5_takeProp_43 (by decide) ?_
      refine sj_ixor dX5_takeProp_44 ?_
      refine sj_iand dX5_takeProp_45 ?_
      refine sj_iast hf dX5_takeProp_46 (fun h hf => ?_)
      refine sj_aload_n 0 dX5_takeProp_47 rfl ?_
      obtain ⟨fs48, he48, hf⟩ := sd_isC_some hf
      refine sj_cI (rest := []) (fun _ _ _ e => sj_runV (n := 0) (As := []) (rest := []) (sX5_settle_2 l G a0 h _ _ _ e) he48 rfl rfl rfl rfl q3307 q3309 qs101 q127 q3310 (by decide +kernel) rfl rfl ⟨Nat.le_of_ble_eq_true rfl, Nat.le_of_ble_eq_true rfl⟩ rfl (Nat.le_of_ble_eq_true rfl) dX5_takeProp_48) hf (fun r5 h c hf => ?_)
      exact sj_iret (o := sd_oI) hf rfl rfl rfl dX5_takeProp_51
    · refine sj_aload_n 0 dX5_takeProp_27 rfl ?_
      refine sj_iconst (v := 2) dX5_takeProp_28 (by decide) ?_
      obtain ⟨fs29, he29, hf⟩ := sd_isC_some hf
      refine sj_cI (rest := []) (fun _ _ _ e => sj_runV (n := 1) (As := [.int 2]) (rest := []) (sX5_no l G a0 2 h _ _ _ e) he29 rfl rfl rfl rfl q2913 q2915 qs42 q127 q2916 (by decide +kernel) rfl rfl ⟨Nat.le_of_ble_eq_true rfl, Nat.le_of_ble_eq_true rfl⟩ rfl (Nat.le_of_ble_eq_true rfl) dX5_takeProp_29) hf (fun r6 h c hf => ?_)
      exact sj_iret (o := sd_oI) hf rfl rfl rfl dX5_takeProp_32
  · refine sj_aload_n 0 dX5_takeProp_13 rfl ?_
    refine sj_iconst (v := 1) dX5_takeProp_14 (by decide) ?_
    obtain ⟨fs15, he15, hf⟩ := sd_isC_some hf
    refine sj_cI (rest := []) (fun _ _ _ e => sj_runV (n := 1) (As := [.int 1]) (rest := []) (sX5_no l G a0 1 h _ _ _ e) he15 rfl rfl rfl rfl q2913 q2915 qs42 q127 q2916 (by decide +kernel) rfl rfl ⟨Nat.le_of_ble_eq_true rfl, Nat.le_of_ble_eq_true rfl⟩ rfl (Nat.le_of_ble_eq_true rfl) dX5_takeProp_15) hf (fun r7 h c hf => ?_)
    exact sj_iret (o := sd_oI) hf rfl rfl rfl dX5_takeProp_18
/-! SofaDigModel.isAsked(I)Z -/
abbrev cX5_isAsked : ByteArray := prog_46_method_34_code
def yX5_isAsked : MethodName := ⟨RX5, "isAsked", "(I)Z"⟩
def dkwX5_isAsked_1 : List UInt8 := [167, 0, 4, 3, 172]
abbrev dktX5_isAsked_1 : List UInt8 := dkwX5_isAsked_1 ++ []
def dkwX5_isAsked_0 : List UInt8 := [26, 16, 100, 159, 0, 20, 26, 16, 15, 16, 20, 184, 0, 61, 154, 0, 9, 26, 16, 22, 160, 0, 7, 4]
abbrev dktX5_isAsked_0 : List UInt8 := dkwX5_isAsked_0 ++ dktX5_isAsked_1
theorem dksX5_isAsked_0 : cX5_isAsked.data.toList.drop 0 = dktX5_isAsked_0 := by decide +kernel
theorem dksX5_isAsked_1 : cX5_isAsked.data.toList.drop 24 = dktX5_isAsked_1 := dk_seg dksX5_isAsked_0 24 rfl rfl
theorem dX5_isAsked_0 : decode cX5_isAsked 0 = .ok (.iload_n 0, 1) := dk_26 (dk_at dksX5_isAsked_0 0 rfl rfl)
theorem dX5_isAsked_1 : decode cX5_isAsked 1 = .ok (.bipush 100, 2) := dk_16 100 (dk_at dksX5_isAsked_0 1 rfl rfl)
theorem dX5_isAsked_3 : decode cX5_isAsked 3 = .ok (.if_icmp .eq 20, 3) := dk_159 0 20 (dk_at dksX5_isAsked_0 3 rfl rfl)
theorem dX5_isAsked_6 : decode cX5_isAsked 6 = .ok (.iload_n 0, 1) := dk_26 (dk_at dksX5_isAsked_0 6 rfl rfl)
theorem dX5_isAsked_7 : decode cX5_isAsked 7 = .ok (.bipush 15, 2) := dk_16 15 (dk_at dksX5_isAsked_0 7 rfl rfl)
theorem dX5_isAsked_9 : decode cX5_isAsked 9 = .ok (.bipush 20, 2) := dk_16 20 (dk_at dksX5_isAsked_0 9 rfl rfl)
theorem dX5_isAsked_11 : decode cX5_isAsked 11 = .ok (.invokestatic 61, 3) := dk_184 0 61 (dk_at dksX5_isAsked_0 11 rfl rfl)
theorem dX5_isAsked_14 : decode cX5_isAsked 14 = .ok (.ifCond .ne 9, 3) := dk_154 0 9 (dk_at dksX5_isAsked_0 14 rfl rfl)
theorem dX5_isAsked_17 : decode cX5_isAsked 17 = .ok (.iload_n 0, 1) := dk_26 (dk_at dksX5_isAsked_0 17 rfl rfl)
theorem dX5_isAsked_18 : decode cX5_isAsked 18 = .ok (.bipush 22, 2) := dk_16 22 (dk_at dksX5_isAsked_0 18 rfl rfl)
theorem dX5_isAsked_20 : decode cX5_isAsked 20 = .ok (.if_icmp .ne 7, 3) := dk_160 0 7 (dk_at dksX5_isAsked_0 20 rfl rfl)
theorem dX5_isAsked_23 : decode cX5_isAsked 23 = .ok (.iconst 1, 1) := dk_4 (dk_at dksX5_isAsked_0 23 rfl rfl)
theorem dX5_isAsked_24 : decode cX5_isAsked 24 = .ok (.goto 4, 3) := dk_167 0 4 (dk_at dksX5_isAsked_1 0 rfl rfl)
theorem dX5_isAsked_27 : decode cX5_isAsked 27 = .ok (.iconst 0, 1) := dk_3 (dk_at dksX5_isAsked_1 3 rfl rfl)
theorem dX5_isAsked_28 : decode cX5_isAsked 28 = .ok (.ireturn, 1) := dk_172 (dk_at dksX5_isAsked_1 4 rfl rfl)
abbrev mX5_isAsked : sd_Y := (yX5_isAsked, cX5_isAsked, 1, some (.boolean), none)
def fX5_isAsked (G : sd_G) (a1 : Int32) : sd_M Int32 :=
  if a1 = 100 then (
    sd_ret 1)
  else (
    sd_bnd (fX5_isIn G a1 15 20) fun r1 =>
    if r1 = 0 then (
      if a1 = 22 then (
        sd_ret 1)
      else (
        sd_ret 0))
    else (
      sd_ret 1))
set_option maxHeartbeats 4000000 in
theorem sX5_isAsked (l : Launch) (G : sd_G) (a1 : Int32) (h : sd_H) (ρ : Int32) (cT : Nat × Nat) (h2 : sd_H) (hf : fX5_isAsked G a1 h = some (ρ, cT, h2)) : sd_Met mX5_isAsked ((l, G), (1, 22), [.int a1], (sd_oI ρ, h2), cT) h := by
  refine sd_entry (plainFor_of_name rfl) rfl (Nat.le_of_ble_eq_true rfl) ?_
  show sd_J mX5_isAsked ((l, G), (1, 22), [.int a1], (sd_oI ρ, h2), cT) 0 [(0, .int a1)] [] h cT
  unfold fX5_isAsked at hf
  refine sj_iload_n 0 dX5_isAsked_0 rfl ?_
  refine sj_bipush (v := 100) dX5_isAsked_1 (by decide) ?_
  refine sj_iceq 23 hf dX5_isAsked_3 (by decide) (fun g3 hf => ?_) (fun g3 hf => ?_)
  · refine sj_iconst (v := 1) dX5_isAsked_23 (by decide) ?_
    refine sj_goto 28 dX5_isAsked_24 (by decide) ?_
    exact sj_zretC (o := sd_oI) (ty := .boolean) rfl hf rfl rfl rfl dX5_isAsked_28
  · refine sj_iload_n 0 dX5_isAsked_6 rfl ?_
    refine sj_bipush (v := 15) dX5_isAsked_7 (by decide) ?_
    refine sj_bipush (v := 20) dX5_isAsked_9 (by decide) ?_
    refine sj_cI (rest := []) (fun _ _ _ e => sj_runS (n := 3) (rest := []) (sX5_isIn l G a1 15 20 h _ _ _ e) rfl rfl q2921 q2922 q127 q2923 (by decide +kernel) rfl ⟨Nat.le_of_ble_eq_true rfl, Nat.le_of_ble_eq_true rfl⟩ rfl (Nat.le_of_ble_eq_true rfl) dX5_isAsked_11) hf (fun r1 h c hf => ?_)
    refine sj_ifne 23 hf dX5_isAsked_14 (by decide) (fun g14 hf => ?_) (fun g14 hf => ?_)
    · refine sj_iconst (v := 1) dX5_isAsked_23 (by decide) ?_
      refine sj_goto 28 dX5_isAsked_24 (by decide) ?_
      exact sj_zretC (o := sd_oI) (ty := .boolean) rfl hf rfl rfl rfl dX5_isAsked_28
    · refine sj_iload_n 0 dX5_isAsked_17 rfl ?_
      refine sj_bipush (v := 22) dX5_isAsked_18 (by decide) ?_
      refine sj_icne 27 hf dX5_isAsked_20 (by decide) (fun g20 hf => ?_) (fun g20 hf => ?_)
      · refine sj_iconst (v := 0) dX5_isAsked_27 (by decide) ?_
        exact sj_zretC (o := sd_oI) (ty := .boolean) rfl hf rfl rfl rfl dX5_isAsked_28
      · refine sj_iconst (v := 1) dX5_isAsked_23 (by decide) ?_
        refine sj_goto 28 dX5_isAsked_24 (by decide) ?_
        exact sj_zretC (o := sd_oI) (ty := .boolean) rfl hf rfl rfl rfl dX5_isAsked_28
/-! SofaDigModel.seen(I)Z -/
abbrev cX5_seen : ByteArray := prog_46_method_28_code
def yX5_seen : MethodName := ⟨RX5, "seen", "(I)Z"⟩
def dkwX5_seen_1 : List UInt8 := [132, 2, 1, 167, 255, 231, 3, 172]
abbrev dktX5_seen_1 : List UInt8 := dkwX5_seen_1 ++ []
def dkwX5_seen_0 : List UInt8 := [3, 61, 28, 42, 180, 0, 20, 180, 0, 55, 162, 0, 20, 42, 28, 27, 182, 0, 134, 153, 0, 5, 4, 172]
abbrev dktX5_seen_0 : List UInt8 := dkwX5_seen_0 ++ dktX5_seen_1
theorem dksX5_seen_0 : cX5_seen.data.toList.drop 0 = dktX5_seen_0 := by decide +kernel
theorem dksX5_seen_1 : cX5_seen.data.toList.drop 24 = dktX5_seen_1 := dk_seg dksX5_seen_0 24 rfl rfl
theorem dX5_seen_0 : decode cX5_seen 0 = .ok (.iconst 0, 1) := dk_3 (dk_at dksX5_seen_0 0 rfl rfl)
theorem dX5_seen_1 : decode cX5_seen 1 = .ok (.istore_n 2, 1) := dk_61 (dk_at dksX5_seen_0 1 rfl rfl)
theorem dX5_seen_2 : decode cX5_seen 2 = .ok (.iload_n 2, 1) := dk_28 (dk_at dksX5_seen_0 2 rfl rfl)
theorem dX5_seen_3 : decode cX5_seen 3 = .ok (.aload_n 0, 1) := dk_42 (dk_at dksX5_seen_0 3 rfl rfl)
theorem dX5_seen_4 : decode cX5_seen 4 = .ok (.getfield 20, 3) := dk_180 0 20 (dk_at dksX5_seen_0 4 rfl rfl)
theorem dX5_seen_7 : decode cX5_seen 7 = .ok (.getfield 55, 3) := dk_180 0 55 (dk_at dksX5_seen_0 7 rfl rfl)
theorem dX5_seen_10 : decode cX5_seen 10 = .ok (.if_icmp .ge 20, 3) := dk_162 0 20 (dk_at dksX5_seen_0 10 rfl rfl)
theorem dX5_seen_13 : decode cX5_seen 13 = .ok (.aload_n 0, 1) := dk_42 (dk_at dksX5_seen_0 13 rfl rfl)
theorem dX5_seen_14 : decode cX5_seen 14 = .ok (.iload_n 2, 1) := dk_28 (dk_at dksX5_seen_0 14 rfl rfl)
theorem dX5_seen_15 : decode cX5_seen 15 = .ok (.iload_n 1, 1) := dk_27 (dk_at dksX5_seen_0 15 rfl rfl)
theorem dX5_seen_16 : decode cX5_seen 16 = .ok (.invokevirtual 134, 3) := dk_182 0 134 (dk_at dksX5_seen_0 16 rfl rfl)
theorem dX5_seen_19 : decode cX5_seen 19 = .ok (.ifCond .eq 5, 3) := dk_153 0 5 (dk_at dksX5_seen_0 19 rfl rfl)
theorem dX5_seen_22 : decode cX5_seen 22 = .ok (.iconst 1, 1) := dk_4 (dk_at dksX5_seen_0 22 rfl rfl)
theorem dX5_seen_23 : decode cX5_seen 23 = .ok (.ireturn, 1) := dk_172 (dk_at dksX5_seen_0 23 rfl rfl)
theorem dX5_seen_24 : decode cX5_seen 24 = .ok (.iinc 2 1, 3) := dk_132 2 1 (dk_at dksX5_seen_1 0 rfl rfl)
theorem dX5_seen_27 : decode cX5_seen 27 = .ok (.goto (-25), 3) := dk_167 255 231 (dk_at dksX5_seen_1 3 rfl rfl)
theorem dX5_seen_30 : decode cX5_seen 30 = .ok (.iconst 0, 1) := dk_3 (dk_at dksX5_seen_1 6 rfl rfl)
theorem dX5_seen_31 : decode cX5_seen 31 = .ok (.ireturn, 1) := dk_172 (dk_at dksX5_seen_1 7 rfl rfl)
abbrev mX5_seen : sd_Y := (yX5_seen, cX5_seen, 3, some (.boolean), none)
def fX5_seen_b2 (G : sd_G) (k2 : Nat × Int32 × Int32 → sd_M Int32) (w0 : Nat) (w1 : Int32) (w2 : Int32) : sd_M Int32 :=
  sd_bnd (sd_getR G 4 4 w0) fun v1 =>
  sd_bnd (sd_getI G 5 1 v1) fun v2 =>
  if v2 ≤ w2 then (
    sd_ret 0)
  else (
    sd_bnd (sd_isC G 4 w0) fun _ =>
    sd_bnd (fX5_seenIn G w0 w2 w1) fun r3 =>
    if r3 = 0 then (
      sd_bnd (sd_ret (w2 + 1)) fun x4 =>
      k2 (w0, w1, x4))
    else (
      sd_ret 1))
set_option maxHeartbeats 4000000 in
theorem sX5_seen_b2 (l : Launch) (G : sd_G) (a0 : Nat) (a1 : Int32) (ρ : Int32) (h2 : sd_H) (cT : Nat × Nat) (k2 : Nat × Int32 × Int32 → sd_M Int32) (Hk2 : ∀ (q : Nat × Int32 × Int32) (h : sd_H) (c : Nat × Nat), k2 q h = some (ρ, c, h2) → sd_J mX5_seen ((l, G), (2, 44), [.ref a0, .int a1], (sd_oI ρ, h2), cT) 2 [(0, .ref q.1), (1, .int q.2.1), (2, .int q.2.2)] [] h c) (w0 : Nat) (w1 : Int32) (w2 : Int32) (h : sd_H) (c : Nat × Nat) (hf : fX5_seen_b2 G k2 w0 w1 w2 h = some (ρ, c, h2)) : sd_J mX5_seen ((l, G), (2, 44), [.ref a0, .int a1], (sd_oI ρ, h2), cT) 2 [(0, .ref w0), (1, .int w1), (2, .int w2)] [] h c := by
  unfold fX5_seen_b2 at hf
  refine sj_iload_n 2 dX5_seen_2 rfl ?_
  refine sj_aload_n 0 dX5_seen_3 rfl ?_
  refine sj_getR fdX5_20_4 hf dX5_seen_4 (fun v1 hf => ?_)
  refine sj_getI fdX5_55_5 hf dX5_seen_7 (fun v2 hf => ?_)
  refine sj_icge 30 hf dX5_seen_10 (by decide) (fun g10 hf => ?_) (fun g10 hf => ?_)
  · refine sj_iconst (v := 0) dX5_seen_30 (by decide) ?_
    exact sj_zretC (o := sd_oI) (ty := .boolean) rfl hf rfl rfl rfl dX5_seen_31
  · refine sj_aload_n 0 dX5_seen_13 rfl ?_
    refine sj_iload_n 2 dX5_seen_14 rfl ?_
    refine sj_iload_n 1 dX5_seen_15 rfl ?_
    obtain ⟨fs16, he16, hf⟩ := sd_isC_some hf
    refine sj_cI (rest := []) (fun _ _ _ e => sj_runV (n := 2) (As := [.int w2, .int w1]) (rest := []) (sX5_seenIn l G w0 w2 w1 h _ _ _ e) he16 rfl rfl rfl rfl q3287 q3289 qs98 q127 q3290 (by decide +kernel) rfl rfl ⟨Nat.le_of_ble_eq_true rfl, Nat.le_of_ble_eq_true rfl⟩ rfl (Nat.le_of_ble_eq_true rfl) dX5_seen_16) hf (fun r3 h c hf => ?_)
    refine sj_ifeq 24 hf dX5_seen_19 (by decide) (fun g19 hf => ?_) (fun g19 hf => ?_)
    · refine sj_iincN 2 (fun x4 => [(2, .int x4), (0, .ref w0), (1, .int w1)]) 1 hf dX5_seen_24 rfl (by decide) (by decide) (fun _ => rfl) (fun x4 hf => ?_)
      refine sj_goto 2 dX5_seen_27 (by decide) ?_
      exact sj_loc [1, 2, 0] rfl (Hk2 (w0, w1, x4) _ _ hf)
    · refine sj_iconst (v := 1) dX5_seen_22 (by decide) ?_
      exact sj_zretC (o := sd_oI) (ty := .boolean) rfl hf rfl rfl rfl dX5_seen_23
theorem sX5_seen_b2_loop (l : Launch) (G : sd_G) (a0 : Nat) (a1 : Int32) (ρ : Int32) (h2 : sd_H) (cT : Nat × Nat) (n : Nat) : ∀ (q : Nat × Int32 × Int32) (h : sd_H) (c : Nat × Nat), sd_loop (fun k s => fX5_seen_b2 G k s.1 s.2.1 s.2.2) n q h = some (ρ, c, h2) → sd_J mX5_seen ((l, G), (2, 44), [.ref a0, .int a1], (sd_oI ρ, h2), cT) 2 [(0, .ref q.1), (1, .int q.2.1), (2, .int q.2.2)] [] h c := by
  induction n with
  | zero => intro q h c hf; cases hf
  | succ n ih => intro q h c hf; exact sX5_seen_b2 l G a0 a1 ρ h2 cT _ ih _ _ _ _ _ hf
def fX5_seen (G : sd_G) (a0 : Nat) (a1 : Int32) : sd_M Int32 :=
  sd_loop (fun k s => fX5_seen_b2 G k s.1 s.2.1 s.2.2) sd_FU (a0, a1, 0)
set_option maxHeartbeats 4000000 in
theorem sX5_seen (l : Launch) (G : sd_G) (a0 : Nat) (a1 : Int32) (h : sd_H) (ρ : Int32) (cT : Nat × Nat) (h2 : sd_H) (hf : fX5_seen G a0 a1 h = some (ρ, cT, h2)) : sd_Met mX5_seen ((l, G), (2, 44), [.ref a0, .int a1], (sd_oI ρ, h2), cT) h := by
  refine sd_entry (plainFor_of_name rfl) rfl (Nat.le_of_ble_eq_true rfl) ?_
  show sd_J mX5_seen ((l, G), (2, 44), [.ref a0, .int a1], (sd_oI ρ, h2), cT) 0 [(0, .ref a0), (1, .int a1)] [] h cT
  unfold fX5_seen at hf
  refine sj_iconst (v := 0) dX5_seen_0 (by decide) ?_
  refine sj_istore_n [(2, .int 0), (0, .ref a0), (1, .int a1)] dX5_seen_1 (by decide) rfl ?_
  exact sj_loc [1, 2, 0] rfl (sX5_seen_b2_loop l G a0 a1 ρ h2 cT sd_FU (a0, a1, 0) _ _ hf)
/-! SofaDigModel.ask(II)I -/
abbrev cX5_ask : ByteArray := prog_46_method_33_code
def yX5_ask : MethodName := ⟨RX5, "ask", "(II)I"⟩
def dkwX5_ask_4 : List UInt8 := [180, 0, 140, 28, 46, 172, 42, 28, 182, 0, 173, 184, 0, 106, 172]
abbrev dktX5_ask_4 : List UInt8 := dkwX5_ask_4 ++ []
def dkwX5_ask_3 : List UInt8 := [180, 0, 40, 7, 46, 184, 0, 143, 172, 42, 180, 0, 20, 180, 0, 125, 28, 46, 172, 42, 180, 0, 20]
abbrev dktX5_ask_3 : List UInt8 := dkwX5_ask_3 ++ dktX5_ask_4
def dkwX5_ask_2 : List UInt8 := [28, 172, 42, 180, 0, 40, 3, 46, 172, 42, 4, 182, 0, 164, 172, 42, 180, 0, 40, 6, 46, 172, 42]
abbrev dktX5_ask_2 : List UInt8 := dkwX5_ask_2 ++ dktX5_ask_3
def dkwX5_ask_1 : List UInt8 := [171, 0, 0, 0, 0, 0, 119, 0, 0, 0, 7, 0, 0, 0, 15, 0, 0, 0, 69, 0, 0, 0, 16, 0, 0, 0, 76, 0, 0, 0, 17, 0, 0, 0, 82, 0, 0, 0, 18, 0, 0, 0, 89, 0, 0, 0, 19, 0, 0, 0, 99, 0, 0, 0, 20, 0, 0, 0, 109, 0, 0, 0, 100, 0, 0, 0, 67]
abbrev dktX5_ask_1 : List UInt8 := dkwX5_ask_1 ++ dktX5_ask_2
def dkwX5_ask_0 : List UInt8 := [27]
abbrev dktX5_ask_0 : List UInt8 := dkwX5_ask_0 ++ dktX5_ask_1
theorem dksX5_ask_0 : cX5_ask.data.toList.drop 0 = dktX5_ask_0 := by decide +kernel
theorem dksX5_ask_1 : cX5_ask.data.toList.drop 1 = dktX5_ask_1 := dk_seg dksX5_ask_0 1 rfl rfl
theorem dksX5_ask_2 : cX5_ask.data.toList.drop 68 = dktX5_ask_2 := dk_seg dksX5_ask_1 67 rfl rfl
theorem dksX5_ask_3 : cX5_ask.data.toList.drop 91 = dktX5_ask_3 := dk_seg dksX5_ask_2 23 rfl rfl
theorem dksX5_ask_4 : cX5_ask.data.toList.drop 114 = dktX5_ask_4 := dk_seg dksX5_ask_3 23 rfl rfl
theorem dX5_ask_0 : decode cX5_ask 0 = .ok (.iload_n 1, 1) := dk_27 (dk_at dksX5_ask_0 0 rfl rfl)
theorem dX5_ask_1 : decode cX5_ask 1 = .ok (.lookupswitch 119 #[(15, 69), (16, 76), (17, 82), (18, 89), (19, 99), (20, 109), (100, 67)], 67) := by decide +kernel
theorem dX5_ask_68 : decode cX5_ask 68 = .ok (.iload_n 2, 1) := dk_28 (dk_at dksX5_ask_2 0 rfl rfl)
theorem dX5_ask_69 : decode cX5_ask 69 = .ok (.ireturn, 1) := dk_172 (dk_at dksX5_ask_2 1 rfl rfl)
theorem dX5_ask_70 : decode cX5_ask 70 = .ok (.aload_n 0, 1) := dk_42 (dk_at dksX5_ask_2 2 rfl rfl)
theorem dX5_ask_71 : decode cX5_ask 71 = .ok (.getfield 40, 3) := dk_180 0 40 (dk_at dksX5_ask_2 3 rfl rfl)
theorem dX5_ask_74 : decode cX5_ask 74 = .ok (.iconst 0, 1) := dk_3 (dk_at dksX5_ask_2 6 rfl rfl)
theorem dX5_ask_75 : decode cX5_ask 75 = .ok (.iaload, 1) := dk_46 (dk_at dksX5_ask_2 7 rfl rfl)
theorem dX5_ask_76 : decode cX5_ask 76 = .ok (.ireturn, 1) := dk_172 (dk_at dksX5_ask_2 8 rfl rfl)
theorem dX5_ask_77 : decode cX5_ask 77 = .ok (.aload_n 0, 1) := dk_42 (dk_at dksX5_ask_2 9 rfl rfl)
theorem dX5_ask_78 : decode cX5_ask 78 = .ok (.iconst 1, 1) := dk_4 (dk_at dksX5_ask_2 10 rfl rfl)
theorem dX5_ask_79 : decode cX5_ask 79 = .ok (.invokevirtual 164, 3) := dk_182 0 164 (dk_at dksX5_ask_2 11 rfl rfl)
theorem dX5_ask_82 : decode cX5_ask 82 = .ok (.ireturn, 1) := dk_172 (dk_at dksX5_ask_2 14 rfl rfl)
theorem dX5_ask_83 : decode cX5_ask 83 = .ok (.aload_n 0, 1) := dk_42 (dk_at dksX5_ask_2 15 rfl rfl)
theorem dX5_ask_84 : decode cX5_ask 84 = .ok (.getfield 40, 3) := dk_180 0 40 (dk_at dksX5_ask_2 16 rfl rfl)
theorem dX5_ask_87 : decode cX5_ask 87 = .ok (.iconst 3, 1) := dk_6 (dk_at dksX5_ask_2 19 rfl rfl)
theorem dX5_ask_88 : decode cX5_ask 88 = .ok (.iaload, 1) := dk_46 (dk_at dksX5_ask_2 20 rfl rfl)
theorem dX5_ask_89 : decode cX5_ask 89 = .ok (.ireturn, 1) := dk_172 (dk_at dksX5_ask_2 21 rfl rfl)
theorem dX5_ask_90 : decode cX5_ask 90 = .ok (.aload_n 0, 1) := dk_42 (dk_at dksX5_ask_2 22 rfl rfl)
theorem dX5_ask_91 : decode cX5_ask 91 = .ok (.getfield 40, 3) := dk_180 0 40 (dk_at dksX5_ask_3 0 rfl rfl)
theorem dX5_ask_94 : decode cX5_ask 94 = .ok (.iconst 4, 1) := dk_7 (dk_at dksX5_ask_3 3 rfl rfl)
theorem dX5_ask_95 : decode cX5_ask 95 = .ok (.iaload, 1) := dk_46 (dk_at dksX5_ask_3 4 rfl rfl)
theorem dX5_ask_96 : decode cX5_ask 96 = .ok (.invokestatic 143, 3) := dk_184 0 143 (dk_at dksX5_ask_3 5 rfl rfl)
theorem dX5_ask_99 : decode cX5_ask 99 = .ok (.ireturn, 1) := dk_172 (dk_at dksX5_ask_3 8 rfl rfl)
theorem dX5_ask_100 : decode cX5_ask 100 = .ok (.aload_n 0, 1) := dk_42 (dk_at dksX5_ask_3 9 rfl rfl)
theorem dX5_ask_101 : decode cX5_ask 101 = .ok (.getfield 20, 3) := dk_180 0 20 (dk_at dksX5_ask_3 10 rfl rfl)
theorem dX5_ask_104 : decode cX5_ask 104 = .ok (.getfield 125, 3) := dk_180 0 125 (dk_at dksX5_ask_3 13 rfl rfl)
theorem dX5_ask_107 : decode cX5_ask 107 = .ok (.iload_n 2, 1) := dk_28 (dk_at dksX5_ask_3 16 rfl rfl)
theorem dX5_ask_108 : decode cX5_ask 108 = .ok (.iaload, 1) := dk_46 (dk_at dksX5_ask_3 17 rfl rfl)
theorem dX5_ask_109 : decode cX5_ask 109 = .ok (.ireturn, 1) := dk_172 (dk_at dksX5_ask_3 18 rfl rfl)
theorem dX5_ask_110 : decode cX5_ask 110 = .ok (.aload_n 0, 1) := dk_42 (dk_at dksX5_ask_3 19 rfl rfl)
theorem dX5_ask_111 : decode cX5_ask 111 = .ok (.getfield 20, 3) := dk_180 0 20 (dk_at dksX5_ask_3 20 rfl rfl)
theorem dX5_ask_114 : decode cX5_ask 114 = .ok (.getfield 140, 3) := dk_180 0 140 (dk_at dksX5_ask_4 0 rfl rfl)
theorem dX5_ask_117 : decode cX5_ask 117 = .ok (.iload_n 2, 1) := dk_28 (dk_at dksX5_ask_4 3 rfl rfl)
theorem dX5_ask_118 : decode cX5_ask 118 = .ok (.iaload, 1) := dk_46 (dk_at dksX5_ask_4 4 rfl rfl)
theorem dX5_ask_119 : decode cX5_ask 119 = .ok (.ireturn, 1) := dk_172 (dk_at dksX5_ask_4 5 rfl rfl)
theorem dX5_ask_120 : decode cX5_ask 120 = .ok (.aload_n 0, 1) := dk_42 (dk_at dksX5_ask_4 6 rfl rfl)
theorem dX5_ask_121 : decode cX5_ask 121 = .ok (.iload_n 2, 1) := dk_28 (dk_at dksX5_ask_4 7 rfl rfl)
theorem dX5_ask_122 : decode cX5_ask 122 = .ok (.invokevirtual 173, 3) := dk_182 0 173 (dk_at dksX5_ask_4 8 rfl rfl)
theorem dX5_ask_125 : decode cX5_ask 125 = .ok (.invokestatic 106, 3) := dk_184 0 106 (dk_at dksX5_ask_4 11 rfl rfl)
theorem dX5_ask_128 : decode cX5_ask 128 = .ok (.ireturn, 1) := dk_172 (dk_at dksX5_ask_4 14 rfl rfl)
abbrev mX5_ask : sd_Y := (yX5_ask, cX5_ask, 3, some (.int), none)
def fX5_ask (G : sd_G) (a0 : Nat) (a1 : Int32) (a2 : Int32) : sd_M Int32 :=
  if a1 = 15 then (
    sd_bnd (sd_getR G 4 15 a0) fun v1 =>
    sd_bnd (sd_aldI G 0 v1 0) fun v2 =>
    sd_ret v2)
  else if a1 = 16 then (
    sd_bnd (sd_isC G 4 a0) fun _ =>
    sd_bnd (fX5_foundNow G a0 1) fun r3 =>
    sd_ret r3)
  else if a1 = 17 then (
    sd_bnd (sd_getR G 4 15 a0) fun v4 =>
    sd_bnd (sd_aldI G 0 v4 3) fun v5 =>
    sd_ret v5)
  else if a1 = 18 then (
    sd_bnd (sd_getR G 4 15 a0) fun v6 =>
    sd_bnd (sd_aldI G 0 v6 4) fun v7 =>
    sd_bnd (fJ19_bitCount G v7) fun r8 =>
    sd_ret r8)
  else if a1 = 19 then (
    sd_bnd (sd_getR G 4 4 a0) fun v9 =>
    sd_bnd (sd_getR G 5 4 v9) fun v10 =>
    sd_bnd (sd_aldI G 0 v10 a2) fun v11 =>
    sd_ret v11)
  else if a1 = 20 then (
    sd_bnd (sd_getR G 4 4 a0) fun v12 =>
    sd_bnd (sd_getR G 5 5 v12) fun v13 =>
    sd_bnd (sd_aldI G 0 v13 a2) fun v14 =>
    sd_ret v14)
  else if a1 = 100 then (
    sd_ret a2)
  else (
  sd_bnd (sd_isC G 4 a0) fun _ =>
  sd_bnd (fX5_seen G a0 a2) fun r15 =>
  sd_bnd (fX5_one G r15) fun r16 =>
  sd_ret r16)
set_option maxHeartbeats 4000000 in
theorem sX5_ask (l : Launch) (G : sd_G) (a0 : Nat) (a1 : Int32) (a2 : Int32) (h : sd_H) (ρ : Int32) (cT : Nat × Nat) (h2 : sd_H) (hf : fX5_ask G a0 a1 a2 h = some (ρ, cT, h2)) : sd_Met mX5_ask ((l, G), (3, 66), [.ref a0, .int a1, .int a2], (sd_oI ρ, h2), cT) h := by
  refine sd_entry (plainFor_of_name rfl) rfl (Nat.le_of_ble_eq_true rfl) ?_
  show sd_J mX5_ask ((l, G), (3, 66), [.ref a0, .int a1, .int a2], (sd_oI ρ, h2), cT) 0 [(0, .ref a0), (1, .int a1), (2, .int a2)] [] h cT
  unfold fX5_ask at hf
  refine sj_iload_n 1 dX5_ask_0 rfl ?_
  by_cases e1_0 : a1 = 15
  · rw [if_pos e1_0] at hf
    refine sj_lsw 70 dX5_ask_1 (k := 15) e1_0 (by decide) (by decide) (by decide) ?_
    refine sj_aload_n 0 dX5_ask_70 rfl ?_
    refine sj_getR fdX5_40_4 hf dX5_ask_71 (fun v1 hf => ?_)
    refine sj_iconst (v := 0) dX5_ask_74 (by decide) ?_
    refine sj_iald hf dX5_ask_75 (fun v2 hf => ?_)
    exact sj_iret (o := sd_oI) hf rfl rfl rfl dX5_ask_76
  rw [if_neg e1_0] at hf
  by_cases e1_1 : a1 = 16
  · rw [if_pos e1_1] at hf
    refine sj_lsw 77 dX5_ask_1 (k := 16) e1_1 (by decide) (by decide) (by decide) ?_
    refine sj_aload_n 0 dX5_ask_77 rfl ?_
    refine sj_iconst (v := 1) dX5_ask_78 (by decide) ?_
    obtain ⟨fs79, he79, hf⟩ := sd_isC_some hf
    refine sj_cI (rest := []) (fun _ _ _ e => sj_runV (n := 1) (As := [.int 1]) (rest := []) (sX5_foundNow l G a0 1 h _ _ _ e) he79 rfl rfl rfl rfl q3149 q3151 qs83 q127 q3152 (by decide +kernel) rfl rfl ⟨Nat.le_of_ble_eq_true rfl, Nat.le_of_ble_eq_true rfl⟩ rfl (Nat.le_of_ble_eq_true rfl) dX5_ask_79) hf (fun r3 h c hf => ?_)
    exact sj_iret (o := sd_oI) hf rfl rfl rfl dX5_ask_82
  rw [if_neg e1_1] at hf
  by_cases e1_2 : a1 = 17
  · rw [if_pos e1_2] at hf
    refine sj_lsw 83 dX5_ask_1 (k := 17) e1_2 (by decide) (by decide) (by decide) ?_
    refine sj_aload_n 0 dX5_ask_83 rfl ?_
    refine sj_getR fdX5_40_4 hf dX5_ask_84 (fun v4 hf => ?_)
    refine sj_iconst (v := 3) dX5_ask_87 (by decide) ?_
    refine sj_iald hf dX5_ask_88 (fun v5 hf => ?_)
    exact sj_iret (o := sd_oI) hf rfl rfl rfl dX5_ask_89
  rw [if_neg e1_2] at hf
  by_cases e1_3 : a1 = 18
  · rw [if_pos e1_3] at hf
    refine sj_lsw 90 dX5_ask_1 (k := 18) e1_3 (by decide) (by decide) (by decide) ?_
    refine sj_aload_n 0 dX5_ask_90 rfl ?_
    refine sj_getR fdX5_40_4 hf dX5_ask_91 (fun v6 hf => ?_)
    refine sj_iconst (v := 4) dX5_ask_94 (by decide) ?_
    refine sj_iald hf dX5_ask_95 (fun v7 hf => ?_)
    refine sj_cI (rest := []) (fun _ _ _ e => sj_runS (n := 1) (rest := []) (sJ19_bitCount l G v7 h _ _ _ e) rfl rfl q3164 q3165 q146 q3166 (by decide +kernel) rfl ⟨Nat.le_of_ble_eq_true rfl, Nat.le_of_ble_eq_true rfl⟩ rfl (Nat.le_of_ble_eq_true rfl) dX5_ask_96) hf (fun r8 h c hf => ?_)
    exact sj_iret (o := sd_oI) hf rfl rfl rfl dX5_ask_99
  rw [if_neg e1_3] at hf
  by_cases e1_4 : a1 = 19
  · rw [if_pos e1_4] at hf
    refine sj_lsw 100 dX5_ask_1 (k := 19) e1_4 (by decide) (by decide) (by decide) ?_
    refine sj_aload_n 0 dX5_ask_100 rfl ?_
    refine sj_getR fdX5_20_4 hf dX5_ask_101 (fun v9 hf => ?_)
    refine sj_getR fdX5_125_5 hf dX5_ask_104 (fun v10 hf => ?_)
    refine sj_iload_n 2 dX5_ask_107 rfl ?_
    refine sj_iald hf dX5_ask_108 (fun v11 hf => ?_)
    exact sj_iret (o := sd_oI) hf rfl rfl rfl dX5_ask_109
  rw [if_neg e1_4] at hf
  by_cases e1_5 : a1 = 20
  · rw [if_pos e1_5] at hf
    refine sj_lsw 110 dX5_ask_1 (k := 20) e1_5 (by decide) (by decide) (by decide) ?_
    refine sj_aload_n 0 dX5_ask_110 rfl ?_
    refine sj_getR fdX5_20_4 hf dX5_ask_111 (fun v12 hf => ?_)
    refine sj_getR fdX5_140_5 hf dX5_ask_114 (fun v13 hf => ?_)
    refine sj_iload_n 2 dX5_ask_117 rfl ?_
    refine sj_iald hf dX5_ask_118 (fun v14 hf => ?_)
    exact sj_iret (o := sd_oI) hf rfl rfl rfl dX5_ask_119
  rw [if_neg e1_5] at hf
  by_cases e1_6 : a1 = 100
  · rw [if_pos e1_6] at hf
    refine sj_lsw 68 dX5_ask_1 (k := 100) e1_6 (by decide) (by decide) (by decide) ?_
    refine sj_iload_n 2 dX5_ask_68 rfl ?_
    exact sj_iret (o := sd_oI) hf rfl rfl rfl dX5_ask_69
  rw [if_neg e1_6] at hf
  refine sj_lswD 120 dX5_ask_1 (by decide) (by rw [lv_osw e1_0 (by decide)]; rw [lv_osw e1_1 (by decide)]; rw [lv_osw e1_2 (by decide)]; rw [lv_osw e1_3 (by decide)]; rw [lv_osw e1_4 (by decide)]; rw [lv_osw e1_5 (by decide)]; rw [lv_osw e1_6 (by decide)]; rfl) (by decide) ?_
  refine sj_aload_n 0 dX5_ask_120 rfl ?_
  refine sj_iload_n 2 dX5_ask_121 rfl ?_
  obtain ⟨fs122, he122, hf⟩ := sd_isC_some hf
  refine sj_cI (rest := []) (fun _ _ _ e => sj_runV (n := 1) (As := [.int a2]) (rest := []) (sX5_seen l G a0 a2 h _ _ _ e) he122 rfl rfl rfl rfl q3354 q3356 qs109 q127 q3357 (by decide +kernel) rfl rfl ⟨Nat.le_of_ble_eq_true rfl, Nat.le_of_ble_eq_true rfl⟩ rfl (Nat.le_of_ble_eq_true rfl) dX5_ask_122) hf (fun r15 h c hf => ?_)
  refine sj_cI (rest := []) (fun _ _ _ e => sj_runS (n := 1) (rest := []) (sX5_one l G r15 h _ _ _ e) rfl rfl q3153 q3154 q127 q3155 (by decide +kernel) rfl ⟨Nat.le_of_ble_eq_true rfl, Nat.le_of_ble_eq_true rfl⟩ rfl (Nat.le_of_ble_eq_true rfl) dX5_ask_125) hf (fun r16 h c hf => ?_)
  exact sj_iret (o := sd_oI) hf rfl rfl rfl dX5_ask_128
/-! SofaDigModel.isOfOneNow(I)Z -/
abbrev cX5_isOfOneNow : ByteArray := prog_46_method_36_code
def yX5_isOfOneNow : MethodName := ⟨RX5, "isOfOneNow", "(I)Z"⟩
def dkwX5_isOfOneNow_1 : List UInt8 := [4, 167, 0, 4, 3, 172]
abbrev dktX5_isOfOneNow_1 : List UInt8 := dkwX5_isOfOneNow_1 ++ []
def dkwX5_isOfOneNow_0 : List UInt8 := [26, 16, 105, 159, 0, 21, 26, 16, 24, 159, 0, 15, 26, 16, 21, 159, 0, 9, 26, 16, 23, 160, 0, 7]
abbrev dktX5_isOfOneNow_0 : List UInt8 := dkwX5_isOfOneNow_0 ++ dktX5_isOfOneNow_1
theorem dksX5_isOfOneNow_0 : cX5_isOfOneNow.data.toList.drop 0 = dktX5_isOfOneNow_0 := by decide +kernel
theorem dksX5_isOfOneNow_1 : cX5_isOfOneNow.data.toList.drop 24 = dktX5_isOfOneNow_1 := dk_seg dksX5_isOfOneNow_0 24 rfl rfl
theorem dX5_isOfOneNow_0 : decode cX5_isOfOneNow 0 = .ok (.iload_n 0, 1) := dk_26 (dk_at dksX5_isOfOneNow_0 0 rfl rfl)
theorem dX5_isOfOneNow_1 : decode cX5_isOfOneNow 1 = .ok (.bipush 105, 2) := dk_16 105 (dk_at dksX5_isOfOneNow_0 1 rfl rfl)
theorem dX5_isOfOneNow_3 : decode cX5_isOfOneNow 3 = .ok (.if_icmp .eq 21, 3) := dk_159 0 21 (dk_at dksX5_isOfOneNow_0 3 rfl rfl)
theorem dX5_isOfOneNow_6 : decode cX5_isOfOneNow 6 = .ok (.iload_n 0, 1) := dk_26 (dk_at dksX5_isOfOneNow_0 6 rfl rfl)
theorem dX5_isOfOneNow_7 : decode cX5_isOfOneNow 7 = .ok (.bipush 24, 2) := dk_16 24 (dk_at dksX5_isOfOneNow_0 7 rfl rfl)
theorem dX5_isOfOneNow_9 : decode cX5_isOfOneNow 9 = .ok (.if_icmp .eq 15, 3) := dk_159 0 15 (dk_at dksX5_isOfOneNow_0 9 rfl rfl)
theorem dX5_isOfOneNow_12 : decode cX5_isOfOneNow 12 = .ok (.iload_n 0, 1) := dk_26 (dk_at dksX5_isOfOneNow_0 12 rfl rfl)
theorem dX5_isOfOneNow_13 : decode cX5_isOfOneNow 13 = .ok (.bipush 21, 2) := dk_16 21 (dk_at dksX5_isOfOneNow_0 13 rfl rfl)
theorem dX5_isOfOneNow_15 : decode cX5_isOfOneNow 15 = .ok (.if_icmp .eq 9, 3) := dk_159 0 9 (dk_at dksX5_isOfOneNow_0 15 rfl rfl)
theorem dX5_isOfOneNow_18 : decode cX5_isOfOneNow 18 = .ok (.iload_n 0, 1) := dk_26 (dk_at dksX5_isOfOneNow_0 18 rfl rfl)
theorem dX5_isOfOneNow_19 : decode cX5_isOfOneNow 19 = .ok (.bipush 23, 2) := dk_16 23 (dk_at dksX5_isOfOneNow_0 19 rfl rfl)
theorem dX5_isOfOneNow_21 : decode cX5_isOfOneNow 21 = .ok (.if_icmp .ne 7, 3) := dk_160 0 7 (dk_at dksX5_isOfOneNow_0 21 rfl rfl)
theorem dX5_isOfOneNow_24 : decode cX5_isOfOneNow 24 = .ok (.iconst 1, 1) := dk_4 (dk_at dksX5_isOfOneNow_1 0 rfl rfl)
theorem dX5_isOfOneNow_25 : decode cX5_isOfOneNow 25 = .ok (.goto 4, 3) := dk_167 0 4 (dk_at dksX5_isOfOneNow_1 1 rfl rfl)
theorem dX5_isOfOneNow_28 : decode cX5_isOfOneNow 28 = .ok (.iconst 0, 1) := dk_3 (dk_at dksX5_isOfOneNow_1 4 rfl rfl)
theorem dX5_isOfOneNow_29 : decode cX5_isOfOneNow 29 = .ok (.ireturn, 1) := dk_172 (dk_at dksX5_isOfOneNow_1 5 rfl rfl)
abbrev mX5_isOfOneNow : sd_Y := (yX5_isOfOneNow, cX5_isOfOneNow, 1, some (.boolean), none)
def fX5_isOfOneNow (G : sd_G) (a1 : Int32) : sd_M Int32 :=
  if a1 = 105 then (
    sd_ret 1)
  else (
    if a1 = 24 then (
      sd_ret 1)
    else (
      if a1 = 21 then (
        sd_ret 1)
      else (
        if a1 = 23 then (
          sd_ret 1)
        else (
          sd_ret 0))))
set_option maxHeartbeats 4000000 in
theorem sX5_isOfOneNow (l : Launch) (G : sd_G) (a1 : Int32) (h : sd_H) (ρ : Int32) (cT : Nat × Nat) (h2 : sd_H) (hf : fX5_isOfOneNow G a1 h = some (ρ, cT, h2)) : sd_Met mX5_isOfOneNow ((l, G), (0, 0), [.int a1], (sd_oI ρ, h2), cT) h := by
  refine sd_entry (plainFor_of_name rfl) rfl (Nat.le_of_ble_eq_true rfl) ?_
  show sd_J mX5_isOfOneNow ((l, G), (0, 0), [.int a1], (sd_oI ρ, h2), cT) 0 [(0, .int a1)] [] h cT
  unfold fX5_isOfOneNow at hf
  refine sj_iload_n 0 dX5_isOfOneNow_0 rfl ?_
  refine sj_bipush (v := 105) dX5_isOfOneNow_1 (by decide) ?_
  refine sj_iceq 24 hf dX5_isOfOneNow_3 (by decide) (fun g3 hf => ?_) (fun g3 hf => ?_)
  · refine sj_iconst (v := 1) dX5_isOfOneNow_24 (by decide) ?_
    refine sj_goto 29 dX5_isOfOneNow_25 (by decide) ?_
    exact sj_zretC (o := sd_oI) (ty := .boolean) rfl hf rfl rfl rfl dX5_isOfOneNow_29
  · refine sj_iload_n 0 dX5_isOfOneNow_6 rfl ?_
    refine sj_bipush (v := 24) dX5_isOfOneNow_7 (by decide) ?_
    refine sj_iceq 24 hf dX5_isOfOneNow_9 (by decide) (fun g9 hf => ?_) (fun g9 hf => ?_)
    · refine sj_iconst (v := 1) dX5_isOfOneNow_24 (by decide) ?_
      refine sj_goto 29 dX5_isOfOneNow_25 (by decide) ?_
      exact sj_zretC (o := sd_oI) (ty := .boolean) rfl hf rfl rfl rfl dX5_isOfOneNow_29
    · refine sj_iload_n 0 dX5_isOfOneNow_12 rfl ?_
      refine sj_bipush (v := 21) dX5_isOfOneNow_13 (by decide) ?_
      refine sj_iceq 24 hf dX5_isOfOneNow_15 (by decide) (fun g15 hf => ?_) (fun g15 hf => ?_)
      · refine sj_iconst (v := 1) dX5_isOfOneNow_24 (by decide) ?_
        refine sj_goto 29 dX5_isOfOneNow_25 (by decide) ?_
        exact sj_zretC (o := sd_oI) (ty := .boolean) rfl hf rfl rfl rfl dX5_isOfOneNow_29
      · refine sj_iload_n 0 dX5_isOfOneNow_18 rfl ?_
        refine sj_bipush (v := 23) dX5_isOfOneNow_19 (by decide) ?_
        refine sj_icne 28 hf dX5_isOfOneNow_21 (by decide) (fun g21 hf => ?_) (fun g21 hf => ?_)
        · refine sj_iconst (v := 0) dX5_isOfOneNow_28 (by decide) ?_
          exact sj_zretC (o := sd_oI) (ty := .boolean) rfl hf rfl rfl rfl dX5_isOfOneNow_29
        · refine sj_iconst (v := 1) dX5_isOfOneNow_24 (by decide) ?_
          refine sj_goto 29 dX5_isOfOneNow_25 (by decide) ?_
          exact sj_zretC (o := sd_oI) (ty := .boolean) rfl hf rfl rfl rfl dX5_isOfOneNow_29
/-! SofaDigModel.turned(II)I -/
abbrev cX5_turned : ByteArray := prog_46_method_35_code
def yX5_turned : MethodName := ⟨RX5, "turned", "(II)I"⟩
def dkwX5_turned_3 : List UInt8 := [28, 182, 0, 176, 153, 0, 15, 42, 28, 182, 0, 113, 153, 0, 7, 4, 167, 0, 4, 3, 184, 0, 106, 172]
abbrev dktX5_turned_3 : List UInt8 := dkwX5_turned_3 ++ []
def dkwX5_turned_2 : List UInt8 := [28, 116, 172, 4, 28, 100, 172, 42, 28, 42, 180, 0, 20, 180, 0, 52, 184, 0, 151, 182, 0, 74, 172, 42]
abbrev dktX5_turned_2 : List UInt8 := dkwX5_turned_2 ++ dktX5_turned_3
def dkwX5_turned_1 : List UInt8 := [171, 0, 0, 0, 0, 0, 58, 0, 0, 0, 3, 0, 0, 0, 21, 0, 0, 0, 42, 0, 0, 0, 24, 0, 0, 0, 38, 0, 0, 0, 105, 0, 0, 0, 35]
abbrev dktX5_turned_1 : List UInt8 := dkwX5_turned_1 ++ dktX5_turned_2
def dkwX5_turned_0 : List UInt8 := [27]
abbrev dktX5_turned_0 : List UInt8 := dkwX5_turned_0 ++ dktX5_turned_1
theorem dksX5_turned_0 : cX5_turned.data.toList.drop 0 = dktX5_turned_0 := by decide +kernel
theorem dksX5_turned_1 : cX5_turned.data.toList.drop 1 = dktX5_turned_1 := dk_seg dksX5_turned_0 1 rfl rfl
theorem dksX5_turned_2 : cX5_turned.data.toList.drop 36 = dktX5_turned_2 := dk_seg dksX5_turned_1 35 rfl rfl
theorem dksX5_turned_3 : cX5_turned.data.toList.drop 60 = dktX5_turned_3 := dk_seg dksX5_turned_2 24 rfl rfl
theorem dX5_turned_0 : decode cX5_turned 0 = .ok (.iload_n 1, 1) := dk_27 (dk_at dksX5_turned_0 0 rfl rfl)
theorem dX5_turned_1 : decode cX5_turned 1 = .ok (.lookupswitch 58 #[(21, 42), (24, 38), (105, 35)], 35) := by decide +kernel
theorem dX5_turned_36 : decode cX5_turned 36 = .ok (.iload_n 2, 1) := dk_28 (dk_at dksX5_turned_2 0 rfl rfl)
theorem dX5_turned_37 : decode cX5_turned 37 = .ok (.ineg, 1) := dk_116 (dk_at dksX5_turned_2 1 rfl rfl)
theorem dX5_turned_38 : decode cX5_turned 38 = .ok (.ireturn, 1) := dk_172 (dk_at dksX5_turned_2 2 rfl rfl)
theorem dX5_turned_39 : decode cX5_turned 39 = .ok (.iconst 1, 1) := dk_4 (dk_at dksX5_turned_2 3 rfl rfl)
theorem dX5_turned_40 : decode cX5_turned 40 = .ok (.iload_n 2, 1) := dk_28 (dk_at dksX5_turned_2 4 rfl rfl)
theorem dX5_turned_41 : decode cX5_turned 41 = .ok (.isub, 1) := dk_100 (dk_at dksX5_turned_2 5 rfl rfl)
theorem dX5_turned_42 : decode cX5_turned 42 = .ok (.ireturn, 1) := dk_172 (dk_at dksX5_turned_2 6 rfl rfl)
theorem dX5_turned_43 : decode cX5_turned 43 = .ok (.aload_n 0, 1) := dk_42 (dk_at dksX5_turned_2 7 rfl rfl)
theorem dX5_turned_44 : decode cX5_turned 44 = .ok (.iload_n 2, 1) := dk_28 (dk_at dksX5_turned_2 8 rfl rfl)
theorem dX5_turned_45 : decode cX5_turned 45 = .ok (.aload_n 0, 1) := dk_42 (dk_at dksX5_turned_2 9 rfl rfl)
theorem dX5_turned_46 : decode cX5_turned 46 = .ok (.getfield 20, 3) := dk_180 0 20 (dk_at dksX5_turned_2 10 rfl rfl)
theorem dX5_turned_49 : decode cX5_turned 49 = .ok (.getfield 52, 3) := dk_180 0 52 (dk_at dksX5_turned_2 13 rfl rfl)
theorem dX5_turned_52 : decode cX5_turned 52 = .ok (.invokestatic 151, 3) := dk_184 0 151 (dk_at dksX5_turned_2 16 rfl rfl)
theorem dX5_turned_55 : decode cX5_turned 55 = .ok (.invokevirtual 74, 3) := dk_182 0 74 (dk_at dksX5_turned_2 19 rfl rfl)
theorem dX5_turned_58 : decode cX5_turned 58 = .ok (.ireturn, 1) := dk_172 (dk_at dksX5_turned_2 22 rfl rfl)
theorem dX5_turned_59 : decode cX5_turned 59 = .ok (.aload_n 0, 1) := dk_42 (dk_at dksX5_turned_2 23 rfl rfl)
theorem dX5_turned_60 : decode cX5_turned 60 = .ok (.iload_n 2, 1) := dk_28 (dk_at dksX5_turned_3 0 rfl rfl)
theorem dX5_turned_61 : decode cX5_turned 61 = .ok (.invokevirtual 176, 3) := dk_182 0 176 (dk_at dksX5_turned_3 1 rfl rfl)
theorem dX5_turned_64 : decode cX5_turned 64 = .ok (.ifCond .eq 15, 3) := dk_153 0 15 (dk_at dksX5_turned_3 4 rfl rfl)
theorem dX5_turned_67 : decode cX5_turned 67 = .ok (.aload_n 0, 1) := dk_42 (dk_at dksX5_turned_3 7 rfl rfl)
theorem dX5_turned_68 : decode cX5_turned 68 = .ok (.iload_n 2, 1) := dk_28 (dk_at dksX5_turned_3 8 rfl rfl)
theorem dX5_turned_69 : decode cX5_turned 69 = .ok (.invokevirtual 113, 3) := dk_182 0 113 (dk_at dksX5_turned_3 9 rfl rfl)
theorem dX5_turned_72 : decode cX5_turned 72 = .ok (.ifCond .eq 7, 3) := dk_153 0 7 (dk_at dksX5_turned_3 12 rfl rfl)
theorem dX5_turned_75 : decode cX5_turned 75 = .ok (.iconst 1, 1) := dk_4 (dk_at dksX5_turned_3 15 rfl rfl)
theorem dX5_turned_76 : decode cX5_turned 76 = .ok (.goto 4, 3) := dk_167 0 4 (dk_at dksX5_turned_3 16 rfl rfl)
theorem dX5_turned_79 : decode cX5_turned 79 = .ok (.iconst 0, 1) := dk_3 (dk_at dksX5_turned_3 19 rfl rfl)
theorem dX5_turned_80 : decode cX5_turned 80 = .ok (.invokestatic 106, 3) := dk_184 0 106 (dk_at dksX5_turned_3 20 rfl rfl)
theorem dX5_turned_83 : decode cX5_turned 83 = .ok (.ireturn, 1) := dk_172 (dk_at dksX5_turned_3 23 rfl rfl)
abbrev mX5_turned : sd_Y := (yX5_turned, cX5_turned, 3, some (.int), none)
def fX5_turned (G : sd_G) (a0 : Nat) (a1 : Int32) (a2 : Int32) : sd_M Int32 :=
  if a1 = 21 then (
    sd_bnd (sd_getR G 4 4 a0) fun v1 =>
    sd_bnd (sd_getI G 5 0 v1) fun v2 =>
    sd_bnd (fJ4_floorMod G a2 v2) fun r3 =>
    sd_bnd (sd_isC G 4 a0) fun _ =>
    sd_bnd (fX5_tall G a0 r3) fun r4 =>
    sd_ret r4)
  else if a1 = 24 then (
    sd_ret ((1 : Int32) - a2))
  else if a1 = 105 then (
    sd_ret (-a2))
  else (
  sd_bnd (sd_isC G 4 a0) fun _ =>
  sd_bnd (fX5_isFind G a0 a2) fun r5 =>
  if r5 = 0 then (
    sd_bnd (fX5_one G 0) fun r6 =>
    sd_ret r6)
  else (
    sd_bnd (sd_isC G 4 a0) fun _ =>
    sd_bnd (fX5_sure G a0 a2) fun r7 =>
    if r7 = 0 then (
      sd_bnd (fX5_one G 0) fun r8 =>
      sd_ret r8)
    else (
      sd_bnd (fX5_one G 1) fun r9 =>
      sd_ret r9)))
set_option maxHeartbeats 4000000 in
theorem sX5_turned (l : Launch) (G : sd_G) (a0 : Nat) (a1 : Int32) (a2 : Int32) (h : sd_H) (ρ : Int32) (cT : Nat × Nat) (h2 : sd_H) (hf : fX5_turned G a0 a1 a2 h = some (ρ, cT, h2)) : sd_Met mX5_turned ((l, G), (2, 43), [.ref a0, .int a1, .int a2], (sd_oI ρ, h2), cT) h := by
  refine sd_entry (plainFor_of_name rfl) rfl (Nat.le_of_ble_eq_true rfl) ?_
  show sd_J mX5_turned ((l, G), (2, 43), [.ref a0, .int a1, .int a2], (sd_oI ρ, h2), cT) 0 [(0, .ref a0), (1, .int a1), (2, .int a2)] [] h cT
  unfold fX5_turned at hf
  refine sj_iload_n 1 dX5_turned_0 rfl ?_
  by_cases e1_0 : a1 = 21
  · rw [if_pos e1_0] at hf
    refine sj_lsw 43 dX5_turned_1 (k := 21) e1_0 (by decide) (by decide) (by decide) ?_
    refine sj_aload_n 0 dX5_turned_43 rfl ?_
    refine sj_iload_n 2 dX5_turned_44 rfl ?_
    refine sj_aload_n 0 dX5_turned_45 rfl ?_
    refine sj_getR fdX5_20_4 hf dX5_turned_46 (fun v1 hf => ?_)
    refine sj_getI fdX5_52_5 hf dX5_turned_49 (fun v2 hf => ?_)
    refine sj_cI (rest := [.ref a0]) (fun _ _ _ e => sj_runS (n := 2) (rest := [.ref a0]) (sJ4_floorMod l G a2 v2 h _ _ _ e) rfl rfl q3365 q3366 q124 q3367 (by decide +kernel) rfl ⟨Nat.le_of_ble_eq_true rfl, Nat.le_of_ble_eq_true rfl⟩ rfl (Nat.le_of_ble_eq_true rfl) dX5_turned_52) hf (fun r3 h c hf => ?_)
    obtain ⟨fs55, he55, hf⟩ := sd_isC_some hf
    refine sj_cI (rest := []) (fun _ _ _ e => sj_runV (n := 1) (As := [.int r3]) (rest := []) (sX5_tall l G a0 r3 h _ _ _ e) he55 rfl rfl rfl rfl q3178 q3180 qs85 q127 q3181 (by decide +kernel) rfl rfl ⟨Nat.le_of_ble_eq_true rfl, Nat.le_of_ble_eq_true rfl⟩ rfl (Nat.le_of_ble_eq_true rfl) dX5_turned_55) hf (fun r4 h c hf => ?_)
    exact sj_iret (o := sd_oI) hf rfl rfl rfl dX5_turned_58
  rw [if_neg e1_0] at hf
  by_cases e1_1 : a1 = 24
  · rw [if_pos e1_1] at hf
    refine sj_lsw 39 dX5_turned_1 (k := 24) e1_1 (by decide) (by decide) (by decide) ?_
    refine sj_iconst (v := 1) dX5_turned_39 (by decide) ?_
    refine sj_iload_n 2 dX5_turned_40 rfl ?_
    refine sj_isub dX5_turned_41 ?_
    exact sj_iret (o := sd_oI) hf rfl rfl rfl dX5_turned_42
  rw [if_neg e1_1] at hf
  by_cases e1_2 : a1 = 105
  · rw [if_pos e1_2] at hf
    refine sj_lsw 36 dX5_turned_1 (k := 105) e1_2 (by decide) (by decide) (by decide) ?_
    refine sj_iload_n 2 dX5_turned_36 rfl ?_
    refine sj_ineg dX5_turned_37 ?_
    exact sj_iret (o := sd_oI) hf rfl rfl rfl dX5_turned_38
  rw [if_neg e1_2] at hf
  refine sj_lswD 59 dX5_turned_1 (by decide) (by rw [lv_osw e1_0 (by decide)]; rw [lv_osw e1_1 (by decide)]; rw [lv_osw e1_2 (by decide)]; rfl) (by decide) ?_
  refine sj_aload_n 0 dX5_turned_59 rfl ?_
  refine sj_iload_n 2 dX5_turned_60 rfl ?_
  obtain ⟨fs61, he61, hf⟩ := sd_isC_some hf
  refine sj_cI (rest := []) (fun _ _ _ e => sj_runV (n := 1) (As := [.int a2]) (rest := []) (sX5_isFind l G a0 a2 h _ _ _ e) he61 rfl rfl rfl rfl q3226 q3228 qs91 q127 q3229 (by decide +kernel) rfl rfl ⟨Nat.le_of_ble_eq_true rfl, Nat.le_of_ble_eq_true rfl⟩ rfl (Nat.le_of_ble_eq_true rfl) dX5_turned_61) hf (fun r5 h c hf => ?_)
  refine sj_ifeq 79 hf dX5_turned_64 (by decide) (fun g64 hf => ?_) (fun g64 hf => ?_)
  · refine sj_iconst (v := 0) dX5_turned_79 (by decide) ?_
    refine sj_cI (rest := []) (fun _ _ _ e => sj_runS (n := 1) (rest := []) (sX5_one l G 0 h _ _ _ e) rfl rfl q3153 q3154 q127 q3155 (by decide +kernel) rfl ⟨Nat.le_of_ble_eq_true rfl, Nat.le_of_ble_eq_true rfl⟩ rfl (Nat.le_of_ble_eq_true rfl) dX5_turned_80) hf (fun r6 h c hf => ?_)
    exact sj_iret (o := sd_oI) hf rfl rfl rfl dX5_turned_83
  · refine sj_aload_n 0 dX5_turned_67 rfl ?_
    refine sj_iload_n 2 dX5_turned_68 rfl ?_
    obtain ⟨fs69, he69, hf⟩ := sd_isC_some hf
    refine sj_cI (rest := []) (fun _ _ _ e => sj_runV (n := 1) (As := [.int a2]) (rest := []) (sX5_sure l G a0 a2 h _ _ _ e) he69 rfl rfl rfl rfl q3238 q3240 qs92 q127 q3241 (by decide +kernel) rfl rfl ⟨Nat.le_of_ble_eq_true rfl, Nat.le_of_ble_eq_true rfl⟩ rfl (Nat.le_of_ble_eq_true rfl) dX5_turned_69) hf (fun r7 h c hf => ?_)
    refine sj_ifeq 79 hf dX5_turned_72 (by decide) (fun g72 hf => ?_) (fun g72 hf => ?_)
    · refine sj_iconst (v := 0) dX5_turned_79 (by decide) ?_
      refine sj_cI (rest := []) (fun _ _ _ e => sj_runS (n := 1) (rest := []) (sX5_one l G 0 h _ _ _ e) rfl rfl q3153 q3154 q127 q3155 (by decide +kernel) rfl ⟨Nat.le_of_ble_eq_true rfl, Nat.le_of_ble_eq_true rfl⟩ rfl (Nat.le_of_ble_eq_true rfl) dX5_turned_80) hf (fun r8 h c hf => ?_)
      exact sj_iret (o := sd_oI) hf rfl rfl rfl dX5_turned_83
    · refine sj_iconst (v := 1) dX5_turned_75 (by decide) ?_
      refine sj_goto 80 dX5_turned_76 (by decide) ?_
      refine sj_cI (rest := []) (fun _ _ _ e => sj_runS (n := 1) (rest := []) (sX5_one l G 1 h _ _ _ e) rfl rfl q3153 q3154 q127 q3155 (by decide +kernel) rfl ⟨Nat.le_of_ble_eq_true rfl, Nat.le_of_ble_eq_true rfl⟩ rfl (Nat.le_of_ble_eq_true rfl) dX5_turned_80) hf (fun r9 h c hf => ?_)
      exact sj_iret (o := sd_oI) hf rfl rfl rfl dX5_turned_83
/-! SofaDigModel.reckon(III)I -/
abbrev cX5_reckon : ByteArray := prog_46_method_37_code
def yX5_reckon : MethodName := ⟨RX5, "reckon", "(III)I"⟩
def dkwX5_reckon_6 : List UInt8 := [161, 0, 7, 4, 167, 0, 4, 3, 184, 0, 106, 172, 27, 28, 126, 172, 27, 28, 128, 172]
abbrev dktX5_reckon_6 : List UInt8 := dkwX5_reckon_6 ++ []
def dkwX5_reckon_5 : List UInt8 := [167, 0, 4, 3, 184, 0, 106, 172, 27, 28, 163, 0, 7, 4, 167, 0, 4, 3, 184, 0, 106, 172, 27, 28]
abbrev dktX5_reckon_5 : List UInt8 := dkwX5_reckon_5 ++ dktX5_reckon_6
def dkwX5_reckon_4 : List UInt8 := [184, 0, 106, 172, 27, 28, 164, 0, 7, 4, 167, 0, 4, 3, 184, 0, 106, 172, 27, 28, 160, 0, 7, 4]
abbrev dktX5_reckon_4 : List UInt8 := dkwX5_reckon_4 ++ dktX5_reckon_5
def dkwX5_reckon_3 : List UInt8 := [27, 28, 184, 0, 179, 172, 27, 28, 184, 0, 128, 172, 27, 28, 162, 0, 7, 4, 167, 0, 4, 3]
abbrev dktX5_reckon_3 : List UInt8 := dkwX5_reckon_3 ++ dktX5_reckon_4
def dkwX5_reckon_2 : List UInt8 := [27, 28, 96, 172, 27, 28, 100, 172, 27, 28, 104, 172, 28, 154, 0, 7, 3, 167, 0, 6, 27, 28, 108, 172]
abbrev dktX5_reckon_2 : List UInt8 := dkwX5_reckon_2 ++ dktX5_reckon_3
def dkwX5_reckon_1 : List UInt8 := [171, 0, 0, 0, 0, 0, 217, 0, 0, 0, 12, 0, 0, 0, 25, 0, 0, 0, 213, 0, 0, 0, 27, 0, 0, 0, 131, 0, 0, 0, 28, 0, 0, 0, 137, 0, 0, 0, 101, 0, 0, 0, 107, 0, 0, 0, 102, 0, 0, 0, 111, 0, 0, 0, 103, 0, 0, 0, 115, 0, 0, 0, 104, 0, 0, 0, 119, 0, 0, 0, 106, 0, 0, 0, 143, 0, 0, 0, 107, 0, 0, 0, 157, 0, 0, 0, 108, 0, 0, 0, 171, 0, 0, 0, 109, 0, 0, 0, 185, 0, 0, 0, 110, 0, 0, 0, 199]
abbrev dktX5_reckon_1 : List UInt8 := dkwX5_reckon_1 ++ dktX5_reckon_2
def dkwX5_reckon_0 : List UInt8 := [26]
abbrev dktX5_reckon_0 : List UInt8 := dkwX5_reckon_0 ++ dktX5_reckon_1
theorem dksX5_reckon_0 : cX5_reckon.data.toList.drop 0 = dktX5_reckon_0 := by decide +kernel
theorem dksX5_reckon_1 : cX5_reckon.data.toList.drop 1 = dktX5_reckon_1 := dk_seg dksX5_reckon_0 1 rfl rfl
theorem dksX5_reckon_2 : cX5_reckon.data.toList.drop 108 = dktX5_reckon_2 := dk_seg dksX5_reckon_1 107 rfl rfl
theorem dksX5_reckon_3 : cX5_reckon.data.toList.drop 132 = dktX5_reckon_3 := dk_seg dksX5_reckon_2 24 rfl rfl
theorem dksX5_reckon_4 : cX5_reckon.data.toList.drop 154 = dktX5_reckon_4 := dk_seg dksX5_reckon_3 22 rfl rfl
theorem dksX5_reckon_5 : cX5_reckon.data.toList.drop 178 = dktX5_reckon_5 := dk_seg dksX5_reckon_4 24 rfl rfl
theorem dksX5_reckon_6 : cX5_reckon.data.toList.drop 202 = dktX5_reckon_6 := dk_seg dksX5_reckon_5 24 rfl rfl
theorem dX5_reckon_0 : decode cX5_reckon 0 = .ok (.iload_n 0, 1) := dk_26 (dk_at dksX5_reckon_0 0 rfl rfl)
theorem dX5_reckon_1 : decode cX5_reckon 1 = .ok (.lookupswitch 217 #[(25, 213), (27, 131), (28, 137), (101, 107), (102, 111), (103, 115), (104, 119), (106, 143), (107, 157), (108, 171), (109, 185), (110, 199)], 107) := by decide +kernel
theorem dX5_reckon_108 : decode cX5_reckon 108 = .ok (.iload_n 1, 1) := dk_27 (dk_at dksX5_reckon_2 0 rfl rfl)
theorem dX5_reckon_109 : decode cX5_reckon 109 = .ok (.iload_n 2, 1) := dk_28 (dk_at dksX5_reckon_2 1 rfl rfl)
theorem dX5_reckon_110 : decode cX5_reckon 110 = .ok (.iadd, 1) := dk_96 (dk_at dksX5_reckon_2 2 rfl rfl)
theorem dX5_reckon_111 : decode cX5_reckon 111 = .ok (.ireturn, 1) := dk_172 (dk_at dksX5_reckon_2 3 rfl rfl)
theorem dX5_reckon_112 : decode cX5_reckon 112 = .ok (.iload_n 1, 1) := dk_27 (dk_at dksX5_reckon_2 4 rfl rfl)
theorem dX5_reckon_113 : decode cX5_reckon 113 = .ok (.iload_n 2, 1) := dk_28 (dk_at dksX5_reckon_2 5 rfl rfl)
theorem dX5_reckon_114 : decode cX5_reckon 114 = .ok (.isub, 1) := dk_100 (dk_at dksX5_reckon_2 6 rfl rfl)
theorem dX5_reckon_115 : decode cX5_reckon 115 = .ok (.ireturn, 1) := dk_172 (dk_at dksX5_reckon_2 7 rfl rfl)
theorem dX5_reckon_116 : decode cX5_reckon 116 = .ok (.iload_n 1, 1) := dk_27 (dk_at dksX5_reckon_2 8 rfl rfl)
theorem dX5_reckon_117 : decode cX5_reckon 117 = .ok (.iload_n 2, 1) := dk_28 (dk_at dksX5_reckon_2 9 rfl rfl)
theorem dX5_reckon_118 : decode cX5_reckon 118 = .ok (.imul, 1) := dk_104 (dk_at dksX5_reckon_2 10 rfl rfl)
theorem dX5_reckon_119 : decode cX5_reckon 119 = .ok (.ireturn, 1) := dk_172 (dk_at dksX5_reckon_2 11 rfl rfl)
theorem dX5_reckon_120 : decode cX5_reckon 120 = .ok (.iload_n 2, 1) := dk_28 (dk_at dksX5_reckon_2 12 rfl rfl)
theorem dX5_reckon_121 : decode cX5_reckon 121 = .ok (.ifCond .ne 7, 3) := dk_154 0 7 (dk_at dksX5_reckon_2 13 rfl rfl)
theorem dX5_reckon_124 : decode cX5_reckon 124 = .ok (.iconst 0, 1) := dk_3 (dk_at dksX5_reckon_2 16 rfl rfl)
theorem dX5_reckon_125 : decode cX5_reckon 125 = .ok (.goto 6, 3) := dk_167 0 6 (dk_at dksX5_reckon_2 17 rfl rfl)
theorem dX5_reckon_128 : decode cX5_reckon 128 = .ok (.iload_n 1, 1) := dk_27 (dk_at dksX5_reckon_2 20 rfl rfl)
theorem dX5_reckon_129 : decode cX5_reckon 129 = .ok (.iload_n 2, 1) := dk_28 (dk_at dksX5_reckon_2 21 rfl rfl)
theorem dX5_reckon_130 : decode cX5_reckon 130 = .ok (.idiv, 1) := dk_108 (dk_at dksX5_reckon_2 22 rfl rfl)
theorem dX5_reckon_131 : decode cX5_reckon 131 = .ok (.ireturn, 1) := dk_172 (dk_at dksX5_reckon_2 23 rfl rfl)
theorem dX5_reckon_132 : decode cX5_reckon 132 = .ok (.iload_n 1, 1) := dk_27 (dk_at dksX5_reckon_3 0 rfl rfl)
theorem dX5_reckon_133 : decode cX5_reckon 133 = .ok (.iload_n 2, 1) := dk_28 (dk_at dksX5_reckon_3 1 rfl rfl)
theorem dX5_reckon_134 : decode cX5_reckon 134 = .ok (.invokestatic 179, 3) := dk_184 0 179 (dk_at dksX5_reckon_3 2 rfl rfl)
theorem dX5_reckon_137 : decode cX5_reckon 137 = .ok (.ireturn, 1) := dk_172 (dk_at dksX5_reckon_3 5 rfl rfl)
theorem dX5_reckon_138 : decode cX5_reckon 138 = .ok (.iload_n 1, 1) := dk_27 (dk_at dksX5_reckon_3 6 rfl rfl)
theorem dX5_reckon_139 : decode cX5_reckon 139 = .ok (.iload_n 2, 1) := dk_28 (dk_at dksX5_reckon_3 7 rfl rfl)
theorem dX5_reckon_140 : decode cX5_reckon 140 = .ok (.invokestatic 128, 3) := dk_184 0 128 (dk_at dksX5_reckon_3 8 rfl rfl)
theorem dX5_reckon_143 : decode cX5_reckon 143 = .ok (.ireturn, 1) := dk_172 (dk_at dksX5_reckon_3 11 rfl rfl)
theorem dX5_reckon_144 : decode cX5_reckon 144 = .ok (.iload_n 1, 1) := dk_27 (dk_at dksX5_reckon_3 12 rfl rfl)
theorem dX5_reckon_145 : decode cX5_reckon 145 = .ok (.iload_n 2, 1) := dk_28 (dk_at dksX5_reckon_3 13 rfl rfl)
theorem dX5_reckon_146 : decode cX5_reckon 146 = .ok (.if_icmp .ge 7, 3) := dk_162 0 7 (dk_at dksX5_reckon_3 14 rfl rfl)
theorem dX5_reckon_149 : decode cX5_reckon 149 = .ok (.iconst 1, 1) := dk_4 (dk_at dksX5_reckon_3 17 rfl rfl)
theorem dX5_reckon_150 : decode cX5_reckon 150 = .ok (.goto 4, 3) := dk_167 0 4 (dk_at dksX5_reckon_3 18 rfl rfl)
theorem dX5_reckon_153 : decode cX5_reckon 153 = .ok (.iconst 0, 1) := dk_3 (dk_at dksX5_reckon_3 21 rfl rfl)
theorem dX5_reckon_154 : decode cX5_reckon 154 = .ok (.invokestatic 106, 3) := dk_184 0 106 (dk_at dksX5_reckon_4 0 rfl rfl)
theorem dX5_reckon_157 : decode cX5_reckon 157 = .ok (.ireturn, 1) := dk_172 (dk_at dksX5_reckon_4 3 rfl rfl)
theorem dX5_reckon_158 : decode cX5_reckon 158 = .ok (.iload_n 1, 1) := dk_27 (dk_at dksX5_reckon_4 4 rfl rfl)
theorem dX5_reckon_159 : decode cX5_reckon 159 = .ok (.iload_n 2, 1) := dk_28 (dk_at dksX5_reckon_4 5 rfl rfl)
theorem dX5_reckon_160 : decode cX5_reckon 160 = .ok (.if_icmp .le 7, 3) := dk_164 0 7 (dk_at dksX5_reckon_4 6 rfl rfl)
theorem dX5_reckon_163 : decode cX5_reckon 163 = .ok (.iconst 1, 1) := dk_4 (dk_at dksX5_reckon_4 9 rfl rfl)
theorem dX5_reckon_164 : decode cX5_reckon 164 = .ok (.goto 4, 3) := dk_167 0 4 (dk_at dksX5_reckon_4 10 rfl rfl)
theorem dX5_reckon_167 : decode cX5_reckon 167 = .ok (.iconst 0, 1) := dk_3 (dk_at dksX5_reckon_4 13 rfl rfl)
theorem dX5_reckon_168 : decode cX5_reckon 168 = .ok (.invokestatic 106, 3) := dk_184 0 106 (dk_at dksX5_reckon_4 14 rfl rfl)
theorem dX5_reckon_171 : decode cX5_reckon 171 = .ok (.ireturn, 1) := dk_172 (dk_at dksX5_reckon_4 17 rfl rfl)
theorem dX5_reckon_172 : decode cX5_reckon 172 = .ok (.iload_n 1, 1) := dk_27 (dk_at dksX5_reckon_4 18 rfl rfl)
theorem dX5_reckon_173 : decode cX5_reckon 173 = .ok (.iload_n 2, 1) := dk_28 (dk_at dksX5_reckon_4 19 rfl rfl)
theorem dX5_reckon_174 : decode cX5_reckon 174 = .ok (.if_icmp .ne 7, 3) := dk_160 0 7 (dk_at dksX5_reckon_4 20 rfl rfl)
theorem dX5_reckon_177 : decode cX5_reckon 177 = .ok (.iconst 1, 1) := dk_4 (dk_at dksX5_reckon_4 23 rfl rfl)
theorem dX5_reckon_178 : decode cX5_reckon 178 = .ok (.goto 4, 3) := dk_167 0 4 (dk_at dksX5_reckon_5 0 rfl rfl)
theorem dX5_reckon_181 : decode cX5_reckon 181 = .ok (.iconst 0, 1) := dk_3 (dk_at dksX5_reckon_5 3 rfl rfl)
theorem dX5_reckon_182 : decode cX5_reckon 182 = .ok (.invokestatic 106, 3) := dk_184 0 106 (dk_at dksX5_reckon_5 4 rfl rfl)
theorem dX5_reckon_185 : decode cX5_reckon 185 = .ok (.ireturn, 1) := dk_172 (dk_at dksX5_reckon_5 7 rfl rfl)
theorem dX5_reckon_186 : decode cX5_reckon 186 = .ok (.iload_n 1, 1) := dk_27 (dk_at dksX5_reckon_5 8 rfl rfl)
theorem dX5_reckon_187 : decode cX5_reckon 187 = .ok (.iload_n 2, 1) := dk_28 (dk_at dksX5_reckon_5 9 rfl rfl)
theorem dX5_reckon_188 : decode cX5_reckon 188 = .ok (.if_icmp .gt 7, 3) := dk_163 0 7 (dk_at dksX5_reckon_5 10 rfl rfl)
theorem dX5_reckon_191 : decode cX5_reckon 191 = .ok (.iconst 1, 1) := dk_4 (dk_at dksX5_reckon_5 13 rfl rfl)
theorem dX5_reckon_192 : decode cX5_reckon 192 = .ok (.goto 4, 3) := dk_167 0 4 (dk_at dksX5_reckon_5 14 rfl rfl)
theorem dX5_reckon_195 : decode cX5_reckon 195 = .ok (.iconst 0, 1) := dk_3 (dk_at dksX5_reckon_5 17 rfl rfl)
theorem dX5_reckon_196 : decode cX5_reckon 196 = .ok (.invokestatic 106, 3) := dk_184 0 106 (dk_at dksX5_reckon_5 18 rfl rfl)
theorem dX5_reckon_199 : decode cX5_reckon 199 = .ok (.ireturn, 1) := dk_172 (dk_at dksX5_reckon_5 21 rfl rfl)
theorem dX5_reckon_200 : decode cX5_reckon 200 = .ok (.iload_n 1, 1) := dk_27 (dk_at dksX5_reckon_5 22 rfl rfl)
theorem dX5_reckon_201 : decode cX5_reckon 201 = .ok (.iload_n 2, 1) := dk_28 (dk_at dksX5_reckon_5 23 rfl rfl)
theorem dX5_reckon_202 : decode cX5_reckon 202 = .ok (.if_icmp .lt 7, 3) := dk_161 0 7 (dk_at dksX5_reckon_6 0 rfl rfl)
theorem dX5_reckon_205 : decode cX5_reckon 205 = .ok (.iconst 1, 1) := dk_4 (dk_at dksX5_reckon_6 3 rfl rfl)
theorem dX5_reckon_206 : decode cX5_reckon 206 = .ok (.goto 4, 3) := dk_167 0 4 (dk_at dksX5_reckon_6 4 rfl rfl)
theorem dX5_reckon_209 : decode cX5_reckon 209 = .ok (.iconst 0, 1) := dk_3 (dk_at dksX5_reckon_6 7 rfl rfl)
theorem dX5_reckon_210 : decode cX5_reckon 210 = .ok (.invokestatic 106, 3) := dk_184 0 106 (dk_at dksX5_reckon_6 8 rfl rfl)
theorem dX5_reckon_213 : decode cX5_reckon 213 = .ok (.ireturn, 1) := dk_172 (dk_at dksX5_reckon_6 11 rfl rfl)
theorem dX5_reckon_214 : decode cX5_reckon 214 = .ok (.iload_n 1, 1) := dk_27 (dk_at dksX5_reckon_6 12 rfl rfl)
theorem dX5_reckon_215 : decode cX5_reckon 215 = .ok (.iload_n 2, 1) := dk_28 (dk_at dksX5_reckon_6 13 rfl rfl)
theorem dX5_reckon_216 : decode cX5_reckon 216 = .ok (.iand, 1) := dk_126 (dk_at dksX5_reckon_6 14 rfl rfl)
theorem dX5_reckon_217 : decode cX5_reckon 217 = .ok (.ireturn, 1) := dk_172 (dk_at dksX5_reckon_6 15 rfl rfl)
theorem dX5_reckon_218 : decode cX5_reckon 218 = .ok (.iload_n 1, 1) := dk_27 (dk_at dksX5_reckon_6 16 rfl rfl)
theorem dX5_reckon_219 : decode cX5_reckon 219 = .ok (.iload_n 2, 1) := dk_28 (dk_at dksX5_reckon_6 17 rfl rfl)
theorem dX5_reckon_220 : decode cX5_reckon 220 = .ok (.ior, 1) := dk_128 (dk_at dksX5_reckon_6 18 rfl rfl)
theorem dX5_reckon_221 : decode cX5_reckon 221 = .ok (.ireturn, 1) := dk_172 (dk_at dksX5_reckon_6 19 rfl rfl)
abbrev mX5_reckon : sd_Y := (yX5_reckon, cX5_reckon, 3, some (.int), none)
def fX5_reckon (G : sd_G) (a1 : Int32) (a2 : Int32) (a3 : Int32) : sd_M Int32 :=
  if a1 = 25 then (
    sd_ret (a2 &&& a3))
  else if a1 = 27 then (
    sd_bnd (fJ4_min G a2 a3) fun r1 =>
    sd_ret r1)
  else if a1 = 28 then (
    sd_bnd (fJ4_max G a2 a3) fun r2 =>
    sd_ret r2)
  else if a1 = 101 then (
    sd_ret (a2 + a3))
  else if a1 = 102 then (
    sd_ret (a2 - a3))
  else if a1 = 103 then (
    sd_ret (a2 * a3))
  else if a1 = 104 then (
    if a3 = 0 then (
      sd_ret 0)
    else (
      sd_bnd (sd_nz a3) fun _ =>
      sd_ret (a2 / a3)))
  else if a1 = 106 then (
    if a3 ≤ a2 then (
      sd_bnd (fX5_one G 0) fun r3 =>
      sd_ret r3)
    else (
      sd_bnd (fX5_one G 1) fun r4 =>
      sd_ret r4))
  else if a1 = 107 then (
    if a2 ≤ a3 then (
      sd_bnd (fX5_one G 0) fun r5 =>
      sd_ret r5)
    else (
      sd_bnd (fX5_one G 1) fun r6 =>
      sd_ret r6))
  else if a1 = 108 then (
    if a2 = a3 then (
      sd_bnd (fX5_one G 1) fun r8 =>
      sd_ret r8)
    else (
      sd_bnd (fX5_one G 0) fun r7 =>
      sd_ret r7))
  else if a1 = 109 then (
    if a3 < a2 then (
      sd_bnd (fX5_one G 0) fun r9 =>
      sd_ret r9)
    else (
      sd_bnd (fX5_one G 1) fun r10 =>
      sd_ret r10))
  else if a1 = 110 then (
    if a2 < a3 then (
      sd_bnd (fX5_one G 0) fun r11 =>
      sd_ret r11)
    else (
      sd_bnd (fX5_one G 1) fun r12 =>
      sd_ret r12))
  else (
  sd_ret (a2 ||| a3))
set_option maxHeartbeats 4000000 in
theorem sX5_reckon (l : Launch) (G : sd_G) (a1 : Int32) (a2 : Int32) (a3 : Int32) (h : sd_H) (ρ : Int32) (cT : Nat × Nat) (h2 : sd_H) (hf : fX5_reckon G a1 a2 a3 h = some (ρ, cT, h2)) : sd_Met mX5_reckon ((l, G), (1, 21), [.int a1, .int a2, .int a3], (sd_oI ρ, h2), cT) h := by
  refine sd_entry (plainFor_of_name rfl) rfl (Nat.le_of_ble_eq_true rfl) ?_
  show sd_J mX5_reckon ((l, G), (1, 21), [.int a1, .int a2, .int a3], (sd_oI ρ, h2), cT) 0 [(0, .int a1), (1, .int a2), (2, .int a3)] [] h cT
  unfold fX5_reckon at hf
  refine sj_iload_n 0 dX5_reckon_0 rfl ?_
  by_cases e1_0 : a1 = 25
  · rw [if_pos e1_0] at hf
    refine sj_lsw 214 dX5_reckon_1 (k := 25) e1_0 (by decide) (by decide) (by decide) ?_
    refine sj_iload_n 1 dX5_reckon_214 rfl ?_
    refine sj_iload_n 2 dX5_reckon_215 rfl ?_
    refine sj_iand dX5_reckon_216 ?_
    exact sj_iret (o := sd_oI) hf rfl rfl rfl dX5_reckon_217
  rw [if_neg e1_0] at hf
  by_cases e1_1 : a1 = 27
  · rw [if_pos e1_1] at hf
    refine sj_lsw 132 dX5_reckon_1 (k := 27) e1_1 (by decide) (by decide) (by decide) ?_
    refine sj_iload_n 1 dX5_reckon_132 rfl ?_
    refine sj_iload_n 2 dX5_reckon_133 rfl ?_
    refine sj_cI (rest := []) (fun _ _ _ e => sj_runS (n := 2) (rest := []) (sJ4_min l G a2 a3 h _ _ _ e) rfl rfl q2993 q432 q124 q433 (by decide +kernel) rfl ⟨Nat.le_of_ble_eq_true rfl, Nat.le_of_ble_eq_true rfl⟩ rfl (Nat.le_of_ble_eq_true rfl) dX5_reckon_134) hf (fun r1 h c hf => ?_)
    exact sj_iret (o := sd_oI) hf rfl rfl rfl dX5_reckon_137
  rw [if_neg e1_1] at hf
  by_cases e1_2 : a1 = 28
  · rw [if_pos e1_2] at hf
    refine sj_lsw 138 dX5_reckon_1 (k := 28) e1_2 (by decide) (by decide) (by decide) ?_
    refine sj_iload_n 1 dX5_reckon_138 rfl ?_
    refine sj_iload_n 2 dX5_reckon_139 rfl ?_
    refine sj_cI (rest := []) (fun _ _ _ e => sj_runS (n := 2) (rest := []) (sJ4_max l G a2 a3 h _ _ _ e) rfl rfl q3282 q357 q124 q358 (by decide +kernel) rfl ⟨Nat.le_of_ble_eq_true rfl, Nat.le_of_ble_eq_true rfl⟩ rfl (Nat.le_of_ble_eq_true rfl) dX5_reckon_140) hf (fun r2 h c hf => ?_)
    exact sj_iret (o := sd_oI) hf rfl rfl rfl dX5_reckon_143
  rw [if_neg e1_2] at hf
  by_cases e1_3 : a1 = 101
  · rw [if_pos e1_3] at hf
    refine sj_lsw 108 dX5_reckon_1 (k := 101) e1_3 (by decide) (by decide) (by decide) ?_
    refine sj_iload_n 1 dX5_reckon_108 rfl ?_
    refine sj_iload_n 2 dX5_reckon_109 rfl ?_
    refine sj_iadd dX5_reckon_110 ?_
    exact sj_iret (o := sd_oI) hf rfl rfl rfl dX5_reckon_111
  rw [if_neg e1_3] at hf
  by_cases e1_4 : a1 = 102
  · rw [if_pos e1_4] at hf
    refine sj_lsw 112 dX5_reckon_1 (k := 102) e1_4 (by decide) (by decide) (by decide) ?_
    refine sj_iload_n 1 dX5_reckon_112 rfl ?_
    refine sj_iload_n 2 dX5_reckon_113 rfl ?_
    refine sj_isub dX5_reckon_114 ?_
    exact sj_iret (o := sd_oI) hf rfl rfl rfl dX5_reckon_115
  rw [if_neg e1_4] at hf
  by_cases e1_5 : a1 = 103
  · rw [if_pos e1_5] at hf
    refine sj_lsw 116 dX5_reckon_1 (k := 103) e1_5 (by decide) (by decide) (by decide) ?_
    refine sj_iload_n 1 dX5_reckon_116 rfl ?_
    refine sj_iload_n 2 dX5_reckon_117 rfl ?_
    refine sj_imul dX5_reckon_118 ?_
    exact sj_iret (o := sd_oI) hf rfl rfl rfl dX5_reckon_119
  rw [if_neg e1_5] at hf
  by_cases e1_6 : a1 = 104
  · rw [if_pos e1_6] at hf
    refine sj_lsw 120 dX5_reckon_1 (k := 104) e1_6 (by decide) (by decide) (by decide) ?_
    refine sj_iload_n 2 dX5_reckon_120 rfl ?_
    refine sj_ifne 128 hf dX5_reckon_121 (by decide) (fun g121 hf => ?_) (fun g121 hf => ?_)
    · refine sj_iload_n 1 dX5_reckon_128 rfl ?_
      refine sj_iload_n 2 dX5_reckon_129 rfl ?_
      obtain ⟨hz130, hf⟩ := sd_nz_some hf
      refine sj_idiv dX5_reckon_130 hz130 ?_
      exact sj_iret (o := sd_oI) hf rfl rfl rfl dX5_reckon_131
    · refine sj_iconst (v := 0) dX5_reckon_124 (by decide) ?_
      refine sj_goto 131 dX5_reckon_125 (by decide) ?_
      exact sj_iret (o := sd_oI) hf rfl rfl rfl dX5_reckon_131
  rw [if_neg e1_6] at hf
  by_cases e1_7 : a1 = 106
  · rw [if_pos e1_7] at hf
    refine sj_lsw 144 dX5_reckon_1 (k := 106) e1_7 (by decide) (by decide) (by decide) ?_
    refine sj_iload_n 1 dX5_reckon_144 rfl ?_
    refine sj_iload_n 2 dX5_reckon_145 rfl ?_
    refine sj_icge 153 hf dX5_reckon_146 (by decide) (fun g146 hf => ?_) (fun g146 hf => ?_)
    · refine sj_iconst (v := 0) dX5_reckon_153 (by decide) ?_
      refine sj_cI (rest := []) (fun _ _ _ e => sj_runS (n := 1) (rest := []) (sX5_one l G 0 h _ _ _ e) rfl rfl q3153 q3154 q127 q3155 (by decide +kernel) rfl ⟨Nat.le_of_ble_eq_true rfl, Nat.le_of_ble_eq_true rfl⟩ rfl (Nat.le_of_ble_eq_true rfl) dX5_reckon_154) hf (fun r3 h c hf => ?_)
      exact sj_iret (o := sd_oI) hf rfl rfl rfl dX5_reckon_157
    · refine sj_iconst (v := 1) dX5_reckon_149 (by decide) ?_
      refine sj_goto 154 dX5_reckon_150 (by decide) ?_
      refine sj_cI (rest := []) (fun _ _ _ e => sj_runS (n := 1) (rest := []) (sX5_one l G 1 h _ _ _ e) rfl rfl q3153 q3154 q127 q3155 (by decide +kernel) rfl ⟨Nat.le_of_ble_eq_true rfl, Nat.le_of_ble_eq_true rfl⟩ rfl (Nat.le_of_ble_eq_true rfl) dX5_reckon_154) hf (fun r4 h c hf => ?_)
      exact sj_iret (o := sd_oI) hf rfl rfl rfl dX5_reckon_157
  rw [if_neg e1_7] at hf
  by_cases e1_8 : a1 = 107
  · rw [if_pos e1_8] at hf
    refine sj_lsw 158 dX5_reckon_1 (k := 107) e1_8 (by decide) (by decide) (by decide) ?_
    refine sj_iload_n 1 dX5_reckon_158 rfl ?_
    refine sj_iload_n 2 dX5_reckon_159 rfl ?_
    refine sj_icle 167 hf dX5_reckon_160 (by decide) (fun g160 hf => ?_) (fun g160 hf => ?_)
    · refine sj_iconst (v := 0) dX5_reckon_167 (by decide) ?_
      refine sj_cI (rest := []) (fun _ _ _ e => sj_runS (n := 1) (rest := []) (sX5_one l G 0 h _ _ _ e) rfl rfl q3153 q3154 q127 q3155 (by decide +kernel) rfl ⟨Nat.le_of_ble_eq_true rfl, Nat.le_of_ble_eq_true rfl⟩ rfl (Nat.le_of_ble_eq_true rfl) dX5_reckon_168) hf (fun r5 h c hf => ?_)
      exact sj_iret (o := sd_oI) hf rfl rfl rfl dX5_reckon_171
    · refine sj_iconst (v := 1) dX5_reckon_163 (by decide) ?_
      refine sj_goto 168 dX5_reckon_164 (by decide) ?_
      refine sj_cI (rest := []) (fun _ _ _ e => sj_runS (n := 1) (rest := []) (sX5_one l G 1 h _ _ _ e) rfl rfl q3153 q3154 q127 q3155 (by decide +kernel) rfl ⟨Nat.le_of_ble_eq_true rfl, Nat.le_of_ble_eq_true rfl⟩ rfl (Nat.le_of_ble_eq_true rfl) dX5_reckon_168) hf (fun r6 h c hf => ?_)
      exact sj_iret (o := sd_oI) hf rfl rfl rfl dX5_reckon_171
  rw [if_neg e1_8] at hf
  by_cases e1_9 : a1 = 108
  · rw [if_pos e1_9] at hf
    refine sj_lsw 172 dX5_reckon_1 (k := 108) e1_9 (by decide) (by decide) (by decide) ?_
    refine sj_iload_n 1 dX5_reckon_172 rfl ?_
    refine sj_iload_n 2 dX5_reckon_173 rfl ?_
    refine sj_icne 181 hf dX5_reckon_174 (by decide) (fun g174 hf => ?_) (fun g174 hf => ?_)
    · refine sj_iconst (v := 0) dX5_reckon_181 (by decide) ?_
      refine sj_cI (rest := []) (fun _ _ _ e => sj_runS (n := 1) (rest := []) (sX5_one l G 0 h _ _ _ e) rfl rfl q3153 q3154 q127 q3155 (by decide +kernel) rfl ⟨Nat.le_of_ble_eq_true rfl, Nat.le_of_ble_eq_true rfl⟩ rfl (Nat.le_of_ble_eq_true rfl) dX5_reckon_182) hf (fun r7 h c hf => ?_)
      exact sj_iret (o := sd_oI) hf rfl rfl rfl dX5_reckon_185
    · refine sj_iconst (v := 1) dX5_reckon_177 (by decide) ?_
      refine sj_goto 182 dX5_reckon_178 (by decide) ?_
      refine sj_cI (rest := []) (fun _ _ _ e => sj_runS (n := 1) (rest := []) (sX5_one l G 1 h _ _ _ e) rfl rfl q3153 q3154 q127 q3155 (by decide +kernel) rfl ⟨Nat.le_of_ble_eq_true rfl, Nat.le_of_ble_eq_true rfl⟩ rfl (Nat.le_of_ble_eq_true rfl) dX5_reckon_182) hf (fun r8 h c hf => ?_)
      exact sj_iret (o := sd_oI) hf rfl rfl rfl dX5_reckon_185
  rw [if_neg e1_9] at hf
  by_cases e1_10 : a1 = 109
  · rw [if_pos e1_10] at hf
    refine sj_lsw 186 dX5_reckon_1 (k := 109) e1_10 (by decide) (by decide) (by decide) ?_
    refine sj_iload_n 1 dX5_reckon_186 rfl ?_
    refine sj_iload_n 2 dX5_reckon_187 rfl ?_
    refine sj_icgt 195 hf dX5_reckon_188 (by decide) (fun g188 hf => ?_) (fun g188 hf => ?_)
    · refine sj_iconst (v := 0) dX5_reckon_195 (by decide) ?_
      refine sj_cI (rest := []) (fun _ _ _ e => sj_runS (n := 1) (rest := []) (sX5_one l G 0 h _ _ _ e) rfl rfl q3153 q3154 q127 q3155 (by decide +kernel) rfl ⟨Nat.le_of_ble_eq_true rfl, Nat.le_of_ble_eq_true rfl⟩ rfl (Nat.le_of_ble_eq_true rfl) dX5_reckon_196) hf (fun r9 h c hf => ?_)
      exact sj_iret (o := sd_oI) hf rfl rfl rfl dX5_reckon_199
    · refine sj_iconst (v := 1) dX5_reckon_191 (by decide) ?_
      refine sj_goto 196 dX5_reckon_192 (by decide) ?_
      refine sj_cI (rest := []) (fun _ _ _ e => sj_runS (n := 1) (rest := []) (sX5_one l G 1 h _ _ _ e) rfl rfl q3153 q3154 q127 q3155 (by decide +kernel) rfl ⟨Nat.le_of_ble_eq_true rfl, Nat.le_of_ble_eq_true rfl⟩ rfl (Nat.le_of_ble_eq_true rfl) dX5_reckon_196) hf (fun r10 h c hf => ?_)
      exact sj_iret (o := sd_oI) hf rfl rfl rfl dX5_reckon_199
  rw [if_neg e1_10] at hf
  by_cases e1_11 : a1 = 110
  · rw [if_pos e1_11] at hf
    refine sj_lsw 200 dX5_reckon_1 (k := 110) e1_11 (by decide) (by decide) (by decide) ?_
    refine sj_iload_n 1 dX5_reckon_200 rfl ?_
    refine sj_iload_n 2 dX5_reckon_201 rfl ?_
    refine sj_iclt 209 hf dX5_reckon_202 (by decide) (fun g202 hf => ?_) (fun g202 hf => ?_)
    · refine sj_iconst (v := 0) dX5_reckon_209 (by decide) ?_
      refine sj_cI (rest := []) (fun _ _ _ e => sj_runS (n := 1) (rest := []) (sX5_one l G 0 h _ _ _ e) rfl rfl q3153 q3154 q127 q3155 (by decide +kernel) rfl ⟨Nat.le_of_ble_eq_true rfl, Nat.le_of_ble_eq_true rfl⟩ rfl (Nat.le_of_ble_eq_true rfl) dX5_reckon_210) hf (fun r11 h c hf => ?_)
      exact sj_iret (o := sd_oI) hf rfl rfl rfl dX5_reckon_213
    · refine sj_iconst (v := 1) dX5_reckon_205 (by decide) ?_
      refine sj_goto 210 dX5_reckon_206 (by decide) ?_
      refine sj_cI (rest := []) (fun _ _ _ e => sj_runS (n := 1) (rest := []) (sX5_one l G 1 h _ _ _ e) rfl rfl q3153 q3154 q127 q3155 (by decide +kernel) rfl ⟨Nat.le_of_ble_eq_true rfl, Nat.le_of_ble_eq_true rfl⟩ rfl (Nat.le_of_ble_eq_true rfl) dX5_reckon_210) hf (fun r12 h c hf => ?_)
      exact sj_iret (o := sd_oI) hf rfl rfl rfl dX5_reckon_213
  rw [if_neg e1_11] at hf
  refine sj_lswD 218 dX5_reckon_1 (by decide) (by rw [lv_osw e1_0 (by decide)]; rw [lv_osw e1_1 (by decide)]; rw [lv_osw e1_2 (by decide)]; rw [lv_osw e1_3 (by decide)]; rw [lv_osw e1_4 (by decide)]; rw [lv_osw e1_5 (by decide)]; rw [lv_osw e1_6 (by decide)]; rw [lv_osw e1_7 (by decide)]; rw [lv_osw e1_8 (by decide)]; rw [lv_osw e1_9 (by decide)]; rw [lv_osw e1_10 (by decide)]; rw [lv_osw e1_11 (by decide)]; rfl) (by decide) ?_
  refine sj_iload_n 1 dX5_reckon_218 rfl ?_
  refine sj_iload_n 2 dX5_reckon_219 rfl ?_
  refine sj_ior dX5_reckon_220 ?_
  exact sj_iret (o := sd_oI) hf rfl rfl rfl dX5_reckon_221
/-! SofaDigModel.reckonPart(I)I -/
abbrev cX5_reckonPart : ByteArray := prog_46_method_38_code
def yX5_reckonPart : MethodName := ⟨RX5, "reckonPart", "(I)I"⟩
def dkwX5_reckonPart_6 : List UInt8 := [167, 255, 131, 28, 154, 0, 7, 4, 167, 0, 9, 42, 180, 0, 46, 3, 46, 172]
abbrev dktX5_reckonPart_6 : List UInt8 := dkwX5_reckonPart_6 ++ []
def dkwX5_reckonPart_5 : List UInt8 := [21, 4, 42, 180, 0, 46, 28, 4, 100, 46, 42, 180, 0, 46, 28, 46, 184, 0, 206, 79, 132, 3, 1]
abbrev dktX5_reckonPart_5 : List UInt8 := dkwX5_reckonPart_5 ++ dktX5_reckonPart_6
def dkwX5_reckonPart_4 : List UInt8 := [180, 0, 46, 28, 4, 100, 46, 182, 0, 203, 79, 167, 0, 33, 132, 2, 255, 42, 180, 0, 46, 28, 4, 100]
abbrev dktX5_reckonPart_4 : List UInt8 := dkwX5_reckonPart_4 ++ dktX5_reckonPart_5
def dkwX5_reckonPart_3 : List UInt8 := [167, 0, 66, 21, 4, 184, 0, 200, 153, 0, 28, 42, 180, 0, 46, 28, 4, 100, 42, 21, 4, 42]
abbrev dktX5_reckonPart_3 : List UInt8 := dkwX5_reckonPart_3 ++ dktX5_reckonPart_4
def dkwX5_reckonPart_2 : List UInt8 := [180, 0, 46, 28, 42, 21, 4, 42, 180, 0, 20, 180, 0, 194, 29, 46, 182, 0, 197, 79, 132, 2, 1]
abbrev dktX5_reckonPart_2 : List UInt8 := dkwX5_reckonPart_2 ++ dktX5_reckonPart_3
def dkwX5_reckonPart_1 : List UInt8 := [162, 0, 118, 42, 180, 0, 20, 180, 0, 188, 29, 46, 54, 4, 21, 4, 184, 0, 191, 153, 0, 30, 42]
abbrev dktX5_reckonPart_1 : List UInt8 := dkwX5_reckonPart_1 ++ dktX5_reckonPart_2
def dkwX5_reckonPart_0 : List UInt8 := [3, 61, 42, 180, 0, 20, 180, 0, 182, 27, 46, 62, 29, 42, 180, 0, 20, 180, 0, 185, 27, 46]
abbrev dktX5_reckonPart_0 : List UInt8 := dkwX5_reckonPart_0 ++ dktX5_reckonPart_1
theorem dksX5_reckonPart_0 : cX5_reckonPart.data.toList.drop 0 = dktX5_reckonPart_0 := by decide +kernel
theorem dksX5_reckonPart_1 : cX5_reckonPart.data.toList.drop 22 = dktX5_reckonPart_1 := dk_seg dksX5_reckonPart_0 22 rfl rfl
theorem dksX5_reckonPart_2 : cX5_reckonPart.data.toList.drop 45 = dktX5_reckonPart_2 := dk_seg dksX5_reckonPart_1 23 rfl rfl
theorem dksX5_reckonPart_3 : cX5_reckonPart.data.toList.drop 68 = dktX5_reckonPart_3 := dk_seg dksX5_reckonPart_2 23 rfl rfl
theorem dksX5_reckonPart_4 : cX5_reckonPart.data.toList.drop 90 = dktX5_reckonPart_4 := dk_seg dksX5_reckonPart_3 22 rfl rfl
theorem dksX5_reckonPart_5 : cX5_reckonPart.data.toList.drop 114 = dktX5_reckonPart_5 := dk_seg dksX5_reckonPart_4 24 rfl rfl
theorem dksX5_reckonPart_6 : cX5_reckonPart.data.toList.drop 137 = dktX5_reckonPart_6 := dk_seg dksX5_reckonPart_5 23 rfl rfl
theorem dX5_reckonPart_0 : decode cX5_reckonPart 0 = .ok (.iconst 0, 1) := dk_3 (dk_at dksX5_reckonPart_0 0 rfl rfl)
theorem dX5_reckonPart_1 : decode cX5_reckonPart 1 = .ok (.istore_n 2, 1) := dk_61 (dk_at dksX5_reckonPart_0 1 rfl rfl)
theorem dX5_reckonPart_2 : decode cX5_reckonPart 2 = .ok (.aload_n 0, 1) := dk_42 (dk_at dksX5_reckonPart_0 2 rfl rfl)
theorem dX5_reckonPart_3 : decode cX5_reckonPart 3 = .ok (.getfield 20, 3) := dk_180 0 20 (dk_at dksX5_reckonPart_0 3 rfl rfl)
theorem dX5_reckonPart_6 : decode cX5_reckonPart 6 = .ok (.getfield 182, 3) := dk_180 0 182 (dk_at dksX5_reckonPart_0 6 rfl rfl)
theorem dX5_reckonPart_9 : decode cX5_reckonPart 9 = .ok (.iload_n 1, 1) := dk_27 (dk_at dksX5_reckonPart_0 9 rfl rfl)
theorem dX5_reckonPart_10 : decode cX5_reckonPart 10 = .ok (.iaload, 1) := dk_46 (dk_at dksX5_reckonPart_0 10 rfl rfl)
theorem dX5_reckonPart_11 : decode cX5_reckonPart 11 = .ok (.istore_n 3, 1) := dk_62 (dk_at dksX5_reckonPart_0 11 rfl rfl)
theorem dX5_reckonPart_12 : decode cX5_reckonPart 12 = .ok (.iload_n 3, 1) := dk_29 (dk_at dksX5_reckonPart_0 12 rfl rfl)
theorem dX5_reckonPart_13 : decode cX5_reckonPart 13 = .ok (.aload_n 0, 1) := dk_42 (dk_at dksX5_reckonPart_0 13 rfl rfl)
theorem dX5_reckonPart_14 : decode cX5_reckonPart 14 = .ok (.getfield 20, 3) := dk_180 0 20 (dk_at dksX5_reckonPart_0 14 rfl rfl)
theorem dX5_reckonPart_17 : decode cX5_reckonPart 17 = .ok (.getfield 185, 3) := dk_180 0 185 (dk_at dksX5_reckonPart_0 17 rfl rfl)
theorem dX5_reckonPart_20 : decode cX5_reckonPart 20 = .ok (.iload_n 1, 1) := dk_27 (dk_at dksX5_reckonPart_0 20 rfl rfl)
theorem dX5_reckonPart_21 : decode cX5_reckonPart 21 = .ok (.iaload, 1) := dk_46 (dk_at dksX5_reckonPart_0 21 rfl rfl)
theorem dX5_reckonPart_22 : decode cX5_reckonPart 22 = .ok (.if_icmp .ge 118, 3) := dk_162 0 118 (dk_at dksX5_reckonPart_1 0 rfl rfl)
theorem dX5_reckonPart_25 : decode cX5_reckonPart 25 = .ok (.aload_n 0, 1) := dk_42 (dk_at dksX5_reckonPart_1 3 rfl rfl)
theorem dX5_reckonPart_26 : decode cX5_reckonPart 26 = .ok (.getfield 20, 3) := dk_180 0 20 (dk_at dksX5_reckonPart_1 4 rfl rfl)
theorem dX5_reckonPart_29 : decode cX5_reckonPart 29 = .ok (.getfield 188, 3) := dk_180 0 188 (dk_at dksX5_reckonPart_1 7 rfl rfl)
theorem dX5_reckonPart_32 : decode cX5_reckonPart 32 = .ok (.iload_n 3, 1) := dk_29 (dk_at dksX5_reckonPart_1 10 rfl rfl)
theorem dX5_reckonPart_33 : decode cX5_reckonPart 33 = .ok (.iaload, 1) := dk_46 (dk_at dksX5_reckonPart_1 11 rfl rfl)
theorem dX5_reckonPart_34 : decode cX5_reckonPart 34 = .ok (.istore 4, 2) := dk_54 4 (dk_at dksX5_reckonPart_1 12 rfl rfl)
theorem dX5_reckonPart_36 : decode cX5_reckonPart 36 = .ok (.iload 4, 2) := dk_21 4 (dk_at dksX5_reckonPart_1 14 rfl rfl)
theorem dX5_reckonPart_38 : decode cX5_reckonPart 38 = .ok (.invokestatic 191, 3) := dk_184 0 191 (dk_at dksX5_reckonPart_1 16 rfl rfl)
theorem dX5_reckonPart_41 : decode cX5_reckonPart 41 = .ok (.ifCond .eq 30, 3) := dk_153 0 30 (dk_at dksX5_reckonPart_1 19 rfl rfl)
theorem dX5_reckonPart_44 : decode cX5_reckonPart 44 = .ok (.aload_n 0, 1) := dk_42 (dk_at dksX5_reckonPart_1 22 rfl rfl)
theorem dX5_reckonPart_45 : decode cX5_reckonPart 45 = .ok (.getfield 46, 3) := dk_180 0 46 (dk_at dksX5_reckonPart_2 0 rfl rfl)
theorem dX5_reckonPart_48 : decode cX5_reckonPart 48 = .ok (.iload_n 2, 1) := dk_28 (dk_at dksX5_reckonPart_2 3 rfl rfl)
theorem dX5_reckonPart_49 : decode cX5_reckonPart 49 = .ok (.aload_n 0, 1) := dk_42 (dk_at dksX5_reckonPart_2 4 rfl rfl)
theorem dX5_reckonPart_50 : decode cX5_reckonPart 50 = .ok (.iload 4, 2) := dk_21 4 (dk_at dksX5_reckonPart_2 5 rfl rfl)
theorem dX5_reckonPart_52 : decode cX5_reckonPart 52 = .ok (.aload_n 0, 1) := dk_42 (dk_at dksX5_reckonPart_2 7 rfl rfl)
theorem dX5_reckonPart_53 : decode cX5_reckonPart 53 = .ok (.getfield 20, 3) := dk_180 0 20 (dk_at dksX5_reckonPart_2 8 rfl rfl)
theorem dX5_reckonPart_56 : decode cX5_reckonPart 56 = .ok (.getfield 194, 3) := dk_180 0 194 (dk_at dksX5_reckonPart_2 11 rfl rfl)
theorem dX5_reckonPart_59 : decode cX5_reckonPart 59 = .ok (.iload_n 3, 1) := dk_29 (dk_at dksX5_reckonPart_2 14 rfl rfl)
theorem dX5_reckonPart_60 : decode cX5_reckonPart 60 = .ok (.iaload, 1) := dk_46 (dk_at dksX5_reckonPart_2 15 rfl rfl)
theorem dX5_reckonPart_61 : decode cX5_reckonPart 61 = .ok (.invokevirtual 197, 3) := dk_182 0 197 (dk_at dksX5_reckonPart_2 16 rfl rfl)
theorem dX5_reckonPart_64 : decode cX5_reckonPart 64 = .ok (.iastore, 1) := dk_79 (dk_at dksX5_reckonPart_2 19 rfl rfl)
theorem dX5_reckonPart_65 : decode cX5_reckonPart 65 = .ok (.iinc 2 1, 3) := dk_132 2 1 (dk_at dksX5_reckonPart_2 20 rfl rfl)
theorem dX5_reckonPart_68 : decode cX5_reckonPart 68 = .ok (.goto 66, 3) := dk_167 0 66 (dk_at dksX5_reckonPart_3 0 rfl rfl)
theorem dX5_reckonPart_71 : decode cX5_reckonPart 71 = .ok (.iload 4, 2) := dk_21 4 (dk_at dksX5_reckonPart_3 3 rfl rfl)
theorem dX5_reckonPart_73 : decode cX5_reckonPart 73 = .ok (.invokestatic 200, 3) := dk_184 0 200 (dk_at dksX5_reckonPart_3 5 rfl rfl)
theorem dX5_reckonPart_76 : decode cX5_reckonPart 76 = .ok (.ifCond .eq 28, 3) := dk_153 0 28 (dk_at dksX5_reckonPart_3 8 rfl rfl)
theorem dX5_reckonPart_79 : decode cX5_reckonPart 79 = .ok (.aload_n 0, 1) := dk_42 (dk_at dksX5_reckonPart_3 11 rfl rfl)
theorem dX5_reckonPart_80 : decode cX5_reckonPart 80 = .ok (.getfield 46, 3) := dk_180 0 46 (dk_at dksX5_reckonPart_3 12 rfl rfl)
theorem dX5_reckonPart_83 : decode cX5_reckonPart 83 = .ok (.iload_n 2, 1) := dk_28 (dk_at dksX5_reckonPart_3 15 rfl rfl)
theorem dX5_reckonPart_84 : decode cX5_reckonPart 84 = .ok (.iconst 1, 1) := dk_4 (dk_at dksX5_reckonPart_3 16 rfl rfl)
theorem dX5_reckonPart_85 : decode cX5_reckonPart 85 = .ok (.isub, 1) := dk_100 (dk_at dksX5_reckonPart_3 17 rfl rfl)
theorem dX5_reckonPart_86 : decode cX5_reckonPart 86 = .ok (.aload_n 0, 1) := dk_42 (dk_at dksX5_reckonPart_3 18 rfl rfl)
theorem dX5_reckonPart_87 : decode cX5_reckonPart 87 = .ok (.iload 4, 2) := dk_21 4 (dk_at dksX5_reckonPart_3 19 rfl rfl)
theorem dX5_reckonPart_89 : decode cX5_reckonPart 89 = .ok (.aload_n 0, 1) := dk_42 (dk_at dksX5_reckonPart_3 21 rfl rfl)
theorem dX5_reckonPart_90 : decode cX5_reckonPart 90 = .ok (.getfield 46, 3) := dk_180 0 46 (dk_at dksX5_reckonPart_4 0 rfl rfl)
theorem dX5_reckonPart_93 : decode cX5_reckonPart 93 = .ok (.iload_n 2, 1) := dk_28 (dk_at dksX5_reckonPart_4 3 rfl rfl)
theorem dX5_reckonPart_94 : decode cX5_reckonPart 94 = .ok (.iconst 1, 1) := dk_4 (dk_at dksX5_reckonPart_4 4 rfl rfl)
theorem dX5_reckonPart_95 : decode cX5_reckonPart 95 = .ok (.isub, 1) := dk_100 (dk_at dksX5_reckonPart_4 5 rfl rfl)
theorem dX5_reckonPart_96 : decode cX5_reckonPart 96 = .ok (.iaload, 1) := dk_46 (dk_at dksX5_reckonPart_4 6 rfl rfl)
theorem dX5_reckonPart_97 : decode cX5_reckonPart 97 = .ok (.invokevirtual 203, 3) := dk_182 0 203 (dk_at dksX5_reckonPart_4 7 rfl rfl)
theorem dX5_reckonPart_100 : decode cX5_reckonPart 100 = .ok (.iastore, 1) := dk_79 (dk_at dksX5_reckonPart_4 10 rfl rfl)
theorem dX5_reckonPart_101 : decode cX5_reckonPart 101 = .ok (.goto 33, 3) := dk_167 0 33 (dk_at dksX5_reckonPart_4 11 rfl rfl)
theorem dX5_reckonPart_104 : decode cX5_reckonPart 104 = .ok (.iinc 2 (-1), 3) := dk_132 2 255 (dk_at dksX5_reckonPart_4 14 rfl rfl)
theorem dX5_reckonPart_107 : decode cX5_reckonPart 107 = .ok (.aload_n 0, 1) := dk_42 (dk_at dksX5_reckonPart_4 17 rfl rfl)
theorem dX5_reckonPart_108 : decode cX5_reckonPart 108 = .ok (.getfield 46, 3) := dk_180 0 46 (dk_at dksX5_reckonPart_4 18 rfl rfl)
theorem dX5_reckonPart_111 : decode cX5_reckonPart 111 = .ok (.iload_n 2, 1) := dk_28 (dk_at dksX5_reckonPart_4 21 rfl rfl)
theorem dX5_reckonPart_112 : decode cX5_reckonPart 112 = .ok (.iconst 1, 1) := dk_4 (dk_at dksX5_reckonPart_4 22 rfl rfl)
theorem dX5_reckonPart_113 : decode cX5_reckonPart 113 = .ok (.isub, 1) := dk_100 (dk_at dksX5_reckonPart_4 23 rfl rfl)
theorem dX5_reckonPart_114 : decode cX5_reckonPart 114 = .ok (.iload 4, 2) := dk_21 4 (dk_at dksX5_reckonPart_5 0 rfl rfl)
theorem dX5_reckonPart_116 : decode cX5_reckonPart 116 = .ok (.aload_n 0, 1) := dk_42 (dk_at dksX5_reckonPart_5 2 rfl rfl)
theorem dX5_reckonPart_117 : decode cX5_reckonPart 117 = .ok (.getfield 46, 3) := dk_180 0 46 (dk_at dksX5_reckonPart_5 3 rfl rfl)
theorem dX5_reckonPart_120 : decode cX5_reckonPart 120 = .ok (.iload_n 2, 1) := dk_28 (dk_at dksX5_reckonPart_5 6 rfl rfl)
theorem dX5_reckonPart_121 : decode cX5_reckonPart 121 = .ok (.iconst 1, 1) := dk_4 (dk_at dksX5_reckonPart_5 7 rfl rfl)
theorem dX5_reckonPart_122 : decode cX5_reckonPart 122 = .ok (.isub, 1) := dk_100 (dk_at dksX5_reckonPart_5 8 rfl rfl)
theorem dX5_reckonPart_123 : decode cX5_reckonPart 123 = .ok (.iaload, 1) := dk_46 (dk_at dksX5_reckonPart_5 9 rfl rfl)
theorem dX5_reckonPart_124 : decode cX5_reckonPart 124 = .ok (.aload_n 0, 1) := dk_42 (dk_at dksX5_reckonPart_5 10 rfl rfl)
theorem dX5_reckonPart_125 : decode cX5_reckonPart 125 = .ok (.getfield 46, 3) := dk_180 0 46 (dk_at dksX5_reckonPart_5 11 rfl rfl)
theorem dX5_reckonPart_128 : decode cX5_reckonPart 128 = .ok (.iload_n 2, 1) := dk_28 (dk_at dksX5_reckonPart_5 14 rfl rfl)
theorem dX5_reckonPart_129 : decode cX5_reckonPart 129 = .ok (.iaload, 1) := dk_46 (dk_at dksX5_reckonPart_5 15 rfl rfl)
theorem dX5_reckonPart_130 : decode cX5_reckonPart 130 = .ok (.invokestatic 206, 3) := dk_184 0 206 (dk_at dksX5_reckonPart_5 16 rfl rfl)
theorem dX5_reckonPart_133 : decode cX5_reckonPart 133 = .ok (.iastore, 1) := dk_79 (dk_at dksX5_reckonPart_5 19 rfl rfl)
theorem dX5_reckonPart_134 : decode cX5_reckonPart 134 = .ok (.iinc 3 1, 3) := dk_132 3 1 (dk_at dksX5_reckonPart_5 20 rfl rfl)
theorem dX5_reckonPart_137 : decode cX5_reckonPart 137 = .ok (.goto (-125), 3) := dk_167 255 131 (dk_at dksX5_reckonPart_6 0 rfl rfl)
theorem dX5_reckonPart_140 : decode cX5_reckonPart 140 = .ok (.iload_n 2, 1) := dk_28 (dk_at dksX5_reckonPart_6 3 rfl rfl)
theorem dX5_reckonPart_141 : decode cX5_reckonPart 141 = .ok (.ifCond .ne 7, 3) := dk_154 0 7 (dk_at dksX5_reckonPart_6 4 rfl rfl)
theorem dX5_reckonPart_144 : decode cX5_reckonPart 144 = .ok (.iconst 1, 1) := dk_4 (dk_at dksX5_reckonPart_6 7 rfl rfl)
theorem dX5_reckonPart_145 : decode cX5_reckonPart 145 = .ok (.goto 9, 3) := dk_167 0 9 (dk_at dksX5_reckonPart_6 8 rfl rfl)
theorem dX5_reckonPart_148 : decode cX5_reckonPart 148 = .ok (.aload_n 0, 1) := dk_42 (dk_at dksX5_reckonPart_6 11 rfl rfl)
theorem dX5_reckonPart_149 : decode cX5_reckonPart 149 = .ok (.getfield 46, 3) := dk_180 0 46 (dk_at dksX5_reckonPart_6 12 rfl rfl)
theorem dX5_reckonPart_152 : decode cX5_reckonPart 152 = .ok (.iconst 0, 1) := dk_3 (dk_at dksX5_reckonPart_6 15 rfl rfl)
theorem dX5_reckonPart_153 : decode cX5_reckonPart 153 = .ok (.iaload, 1) := dk_46 (dk_at dksX5_reckonPart_6 16 rfl rfl)
theorem dX5_reckonPart_154 : decode cX5_reckonPart 154 = .ok (.ireturn, 1) := dk_172 (dk_at dksX5_reckonPart_6 17 rfl rfl)
theorem fdX5_46_4 : sd_Fd "SofaDigModel" 46 4 17 := ⟨(RX5, TX5, 18), "SofaDigModel", rfl, by decide, rfl, in_X5, Or.inl rfl, Or.inl q2867⟩
abbrev mX5_reckonPart : sd_Y := (yX5_reckonPart, cX5_reckonPart, 5, some (.int), none)
def fX5_reckonPart_b12 (G : sd_G) (k12 : Nat × Int32 × Int32 × Int32 → sd_M Int32) (w0 : Nat) (w1 : Int32) (w2 : Int32) (w3 : Int32) : sd_M Int32 :=
  sd_bnd (sd_getR G 4 4 w0) fun v4 =>
  sd_bnd (sd_getR G 5 15 v4) fun v5 =>
  sd_bnd (sd_aldI G 0 v5 w1) fun v6 =>
  if v6 ≤ w3 then (
    if w2 = 0 then (
      sd_ret 1)
    else (
      sd_bnd (sd_getR G 4 17 w0) fun v7 =>
      sd_bnd (sd_aldI G 0 v7 0) fun v8 =>
      sd_ret v8))
  else (
    sd_bnd (sd_getR G 4 4 w0) fun v9 =>
    sd_bnd (sd_getR G 5 16 v9) fun v10 =>
    sd_bnd (sd_aldI G 0 v10 w3) fun v11 =>
    sd_bnd (fX5_isAsked G v11) fun r12 =>
    if r12 = 0 then (
      sd_bnd (fX5_isOfOneNow G v11) fun r13 =>
      if r13 = 0 then (
        sd_bnd (sd_ret (w2 + (-1))) fun x14 =>
        sd_bnd (sd_getR G 4 17 w0) fun v15 =>
        sd_bnd (sd_getR G 4 17 w0) fun v16 =>
        sd_bnd (sd_aldI G 0 v16 (x14 - 1)) fun v17 =>
        sd_bnd (sd_getR G 4 17 w0) fun v18 =>
        sd_bnd (sd_aldI G 0 v18 x14) fun v19 =>
        sd_bnd (fX5_reckon G v11 v17 v19) fun r20 =>
        sd_bnd (sd_astI 0 v15 (x14 - 1) r20) fun _ =>
        sd_bnd (sd_ret (w3 + 1)) fun x21 =>
        k12 (w0, w1, x14, x21))
      else (
        sd_bnd (sd_getR G 4 17 w0) fun v22 =>
        sd_bnd (sd_getR G 4 17 w0) fun v23 =>
        sd_bnd (sd_aldI G 0 v23 (w2 - 1)) fun v24 =>
        sd_bnd (sd_isC G 4 w0) fun _ =>
        sd_bnd (fX5_turned G w0 v11 v24) fun r25 =>
        sd_bnd (sd_astI 0 v22 (w2 - 1) r25) fun _ =>
        sd_bnd (sd_ret (w3 + 1)) fun x26 =>
        k12 (w0, w1, w2, x26)))
    else (
      sd_bnd (sd_getR G 4 17 w0) fun v27 =>
      sd_bnd (sd_getR G 4 4 w0) fun v28 =>
      sd_bnd (sd_getR G 5 17 v28) fun v29 =>
      sd_bnd (sd_aldI G 0 v29 w3) fun v30 =>
      sd_bnd (sd_isC G 4 w0) fun _ =>
      sd_bnd (fX5_ask G w0 v11 v30) fun r31 =>
      sd_bnd (sd_astI 0 v27 w2 r31) fun _ =>
      sd_bnd (sd_ret (w2 + 1)) fun x32 =>
      sd_bnd (sd_ret (w3 + 1)) fun x33 =>
      k12 (w0, w1, x32, x33)))
set_option maxHeartbeats 4000000 in
theorem sX5_reckonPart_b12 (l : Launch) (G : sd_G) (a0 : Nat) (a1 : Int32) (ρ : Int32) (h2 : sd_H) (cT : Nat × Nat) (k12 : Nat × Int32 × Int32 × Int32 → sd_M Int32) (Hk12 : ∀ (q : Nat × Int32 × Int32 × Int32) (h : sd_H) (c : Nat × Nat), k12 q h = some (ρ, c, h2) → sd_J mX5_reckonPart ((l, G), (4, 88), [.ref a0, .int a1], (sd_oI ρ, h2), cT) 12 [(0, .ref q.1), (1, .int q.2.1), (2, .int q.2.2.1), (3, .int q.2.2.2)] [] h c) (w0 : Nat) (w1 : Int32) (w2 : Int32) (w3 : Int32) (h : sd_H) (c : Nat × Nat) (hf : fX5_reckonPart_b12 G k12 w0 w1 w2 w3 h = some (ρ, c, h2)) : sd_J mX5_reckonPart ((l, G), (4, 88), [.ref a0, .int a1], (sd_oI ρ, h2), cT) 12 [(0, .ref w0), (1, .int w1), (2, .int w2), (3, .int w3)] [] h c := by
  unfold fX5_reckonPart_b12 at hf
  refine sj_iload_n 3 dX5_reckonPart_12 rfl ?_
  refine sj_aload_n 0 dX5_reckonPart_13 rfl ?_
  refine sj_getR fdX5_20_4 hf dX5_reckonPart_14 (fun v4 hf => ?_)
  refine sj_getR fdX5_185_5 hf dX5_reckonPart_17 (fun v5 hf => ?_)
  refine sj_iload_n 1 dX5_reckonPart_20 rfl ?_
  refine sj_iald hf dX5_reckonPart_21 (fun v6 hf => ?_)
  refine sj_icge 140 hf dX5_reckonPart_22 (by decide) (fun g22 hf => ?_) (fun g22 hf => ?_)
  · refine sj_iload_n 2 dX5_reckonPart_140 rfl ?_
    refine sj_ifne 148 hf dX5_reckonPart_141 (by decide) (fun g141 hf => ?_) (fun g141 hf => ?_)
    · refine sj_aload_n 0 dX5_reckonPart_148 rfl ?_
      refine sj_getR fdX5_46_4 hf dX5_reckonPart_149 (fun v7 hf => ?_)
      refine sj_iconst (v := 0) dX5_reckonPart_152 (by decide) ?_
      refine sj_iald hf dX5_reckonPart_153 (fun v8 hf => ?_)
      exact sj_iret (o := sd_oI) hf rfl rfl rfl dX5_reckonPart_154
    · refine sj_iconst (v := 1) dX5_reckonPart_144 (by decide) ?_
      refine sj_goto 154 dX5_reckonPart_145 (by decide) ?_
      exact sj_iret (o := sd_oI) hf rfl rfl rfl dX5_reckonPart_154
  · refine sj_aload_n 0 dX5_reckonPart_25 rfl ?_
    refine sj_getR fdX5_20_4 hf dX5_reckonPart_26 (fun v9 hf => ?_)
    refine sj_getR fdX5_188_5 hf dX5_reckonPart_29 (fun v10 hf => ?_)
    refine sj_iload_n 3 dX5_reckonPart_32 rfl ?_
    refine sj_iald hf dX5_reckonPart_33 (fun v11 hf => ?_)
    refine sj_istore [(4, .int v11), (0, .ref w0), (1, .int w1), (2, .int w2), (3, .int w3)] dX5_reckonPart_34 (by decide) rfl ?_
    refine sj_iload 0 dX5_reckonPart_36 rfl ?_
    refine sj_cI (rest := []) (fun _ _ _ e => sj_runS (n := 1) (rest := []) (sX5_isAsked l G v11 h _ _ _ e) rfl rfl q3347 q3348 q127 q3349 (by decide +kernel) rfl ⟨Nat.le_of_ble_eq_true rfl, Nat.le_of_ble_eq_true rfl⟩ rfl (Nat.le_of_ble_eq_true rfl) dX5_reckonPart_38) hf (fun r12 h c hf => ?_)
    refine sj_ifeq 71 hf dX5_reckonPart_41 (by decide) (fun g41 hf => ?_) (fun g41 hf => ?_)
    · refine sj_iload 0 dX5_reckonPart_71 rfl ?_
      refine sj_cI (rest := []) (fun _ _ _ e => sj_runS (n := 1) (rest := []) (sX5_isOfOneNow l G v11 h _ _ _ e) rfl rfl q3358 q3359 q127 q3360 (by decide +kernel) rfl ⟨Nat.le_of_ble_eq_true rfl, Nat.le_of_ble_eq_true rfl⟩ rfl (Nat.le_of_ble_eq_true rfl) dX5_reckonPart_73) hf (fun r13 h c hf => ?_)
      refine sj_ifeq 104 hf dX5_reckonPart_76 (by decide) (fun g76 hf => ?_) (fun g76 hf => ?_)
      · refine sj_iincN 3 (fun x14 => [(2, .int x14), (4, .int v11), (0, .ref w0), (1, .int w1), (3, .int w3)]) (-1) hf dX5_reckonPart_104 rfl (by decide) (by decide) (fun _ => rfl) (fun x14 hf => ?_)
        refine sj_aload_n 2 dX5_reckonPart_107 rfl ?_
        refine sj_getR fdX5_46_4 hf dX5_reckonPart_108 (fun v15 hf => ?_)
        refine sj_iload_n 0 dX5_reckonPart_111 rfl ?_
        refine sj_iconst (v := 1) dX5_reckonPart_112 (by decide) ?_
        refine sj_isub dX5_reckonPart_113 ?_
        refine sj_iload 1 dX5_reckonPart_114 rfl ?_
        refine sj_aload_n 2 dX5_reckonPart_116 rfl ?_
        refine sj_getR fdX5_46_4 hf dX5_reckonPart_117 (fun v16 hf => ?_)
        refine sj_iload_n 0 dX5_reckonPart_120 rfl ?_
        refine sj_iconst (v := 1) dX5_reckonPart_121 (by decide) ?_
        refine sj_isub dX5_reckonPart_122 ?_
        refine sj_iald hf dX5_reckonPart_123 (fun v17 hf => ?_)
        refine sj_aload_n 2 dX5_reckonPart_124 rfl ?_
        refine sj_getR fdX5_46_4 hf dX5_reckonPart_125 (fun v18 hf => ?_)
        refine sj_iload_n 0 dX5_reckonPart_128 rfl ?_
        refine sj_iald hf dX5_reckonPart_129 (fun v19 hf => ?_)
        refine sj_cI (rest := [.int (x14 - 1), .ref v15]) (fun _ _ _ e => sj_runS (n := 3) (rest := [.int (x14 - 1), .ref v15]) (sX5_reckon l G v11 v17 v19 h _ _ _ e) rfl rfl q3368 q3369 q127 q3370 (by decide +kernel) rfl ⟨Nat.le_of_ble_eq_true rfl, Nat.le_of_ble_eq_true rfl⟩ rfl (Nat.le_of_ble_eq_true rfl) dX5_reckonPart_130) hf (fun r20 h c hf => ?_)
        refine sj_iast hf dX5_reckonPart_133 (fun h hf => ?_)
        refine sj_iincN 4 (fun x21 => [(3, .int x21), (2, .int x14), (4, .int v11), (0, .ref w0), (1, .int w1)]) 1 hf dX5_reckonPart_134 rfl (by decide) (by decide) (fun _ => rfl) (fun x21 hf => ?_)
        refine sj_goto 12 dX5_reckonPart_137 (by decide) ?_
        exact sj_loc [3, 4, 1, 0] rfl (Hk12 (w0, w1, x14, x21) _ _ hf)
      · refine sj_aload_n 1 dX5_reckonPart_79 rfl ?_
        refine sj_getR fdX5_46_4 hf dX5_reckonPart_80 (fun v22 hf => ?_)
        refine sj_iload_n 3 dX5_reckonPart_83 rfl ?_
        refine sj_iconst (v := 1) dX5_reckonPart_84 (by decide) ?_
        refine sj_isub dX5_reckonPart_85 ?_
        refine sj_aload_n 1 dX5_reckonPart_86 rfl ?_
        refine sj_iload 0 dX5_reckonPart_87 rfl ?_
        refine sj_aload_n 1 dX5_reckonPart_89 rfl ?_
        refine sj_getR fdX5_46_4 hf dX5_reckonPart_90 (fun v23 hf => ?_)
        refine sj_iload_n 3 dX5_reckonPart_93 rfl ?_
        refine sj_iconst (v := 1) dX5_reckonPart_94 (by decide) ?_
        refine sj_isub dX5_reckonPart_95 ?_
        refine sj_iald hf dX5_reckonPart_96 (fun v24 hf => ?_)
        obtain ⟨fs97, he97, hf⟩ := sd_isC_some hf
        refine sj_cI (rest := [.int (w2 - 1), .ref v22]) (fun _ _ _ e => sj_runV (n := 2) (As := [.int v11, .int v24]) (rest := [.int (w2 - 1), .ref v22]) (sX5_turned l G w0 v11 v24 h _ _ _ e) he97 rfl rfl rfl rfl q3361 q3363 qs110 q127 q3364 (by decide +kernel) rfl rfl ⟨Nat.le_of_ble_eq_true rfl, Nat.le_of_ble_eq_true rfl⟩ rfl (Nat.le_of_ble_eq_true rfl) dX5_reckonPart_97) hf (fun r25 h c hf => ?_)
        refine sj_iast hf dX5_reckonPart_100 (fun h hf => ?_)
        refine sj_goto 134 dX5_reckonPart_101 (by decide) ?_
        refine sj_iincN 4 (fun x26 => [(3, .int x26), (4, .int v11), (0, .ref w0), (1, .int w1), (2, .int w2)]) 1 hf dX5_reckonPart_134 rfl (by decide) (by decide) (fun _ => rfl) (fun x26 hf => ?_)
        refine sj_goto 12 dX5_reckonPart_137 (by decide) ?_
        exact sj_loc [2, 3, 4, 0] rfl (Hk12 (w0, w1, w2, x26) _ _ hf)
    · refine sj_aload_n 1 dX5_reckonPart_44 rfl ?_
      refine sj_getR fdX5_46_4 hf dX5_reckonPart_45 (fun v27 hf => ?_)
      refine sj_iload_n 3 dX5_reckonPart_48 rfl ?_
      refine sj_aload_n 1 dX5_reckonPart_49 rfl ?_
      refine sj_iload 0 dX5_reckonPart_50 rfl ?_
      refine sj_aload_n 1 dX5_reckonPart_52 rfl ?_
      refine sj_getR fdX5_20_4 hf dX5_reckonPart_53 (fun v28 hf => ?_)
      refine sj_getR fdX5_194_5 hf dX5_reckonPart_56 (fun v29 hf => ?_)
      refine sj_iload_n 4 dX5_reckonPart_59 rfl ?_
      refine sj_iald hf dX5_reckonPart_60 (fun v30 hf => ?_)
      obtain ⟨fs61, he61, hf⟩ := sd_isC_some hf
      refine sj_cI (rest := [.int w2, .ref v27]) (fun _ _ _ e => sj_runV (n := 2) (As := [.int v11, .int v30]) (rest := [.int w2, .ref v27]) (sX5_ask l G w0 v11 v30 h _ _ _ e) he61 rfl rfl rfl rfl q3350 q3352 qs108 q127 q3353 (by decide +kernel) rfl rfl ⟨Nat.le_of_ble_eq_true rfl, Nat.le_of_ble_eq_true rfl⟩ rfl (Nat.le_of_ble_eq_true rfl) dX5_reckonPart_61) hf (fun r31 h c hf => ?_)
      refine sj_iast hf dX5_reckonPart_64 (fun h hf => ?_)
      refine sj_iincN 3 (fun x32 => [(2, .int x32), (4, .int v11), (0, .ref w0), (1, .int w1), (3, .int w3)]) 1 hf dX5_reckonPart_65 rfl (by decide) (by decide) (fun _ => rfl) (fun x32 hf => ?_)
      refine sj_goto 134 dX5_reckonPart_68 (by decide) ?_
      refine sj_iincN 4 (fun x33 => [(3, .int x33), (2, .int x32), (4, .int v11), (0, .ref w0), (1, .int w1)]) 1 hf dX5_reckonPart_134 rfl (by decide) (by decide) (fun _ => rfl) (fun x33 hf => ?_)
      refine sj_goto 12 dX5_reckonPart_137 (by decide) ?_
      exact sj_loc [3, 4, 1, 0] rfl (Hk12 (w0, w1, x32, x33) _ _ hf)
theorem sX5_reckonPart_b12_loop (l : Launch) (G : sd_G) (a0 : Nat) (a1 : Int32) (ρ : Int32) (h2 : sd_H) (cT : Nat × Nat) (n : Nat) : ∀ (q : Nat × Int32 × Int32 × Int32) (h : sd_H) (c : Nat × Nat), sd_loop (fun k s => fX5_reckonPart_b12 G k s.1 s.2.1 s.2.2.1 s.2.2.2) n q h = some (ρ, c, h2) → sd_J mX5_reckonPart ((l, G), (4, 88), [.ref a0, .int a1], (sd_oI ρ, h2), cT) 12 [(0, .ref q.1), (1, .int q.2.1), (2, .int q.2.2.1), (3, .int q.2.2.2)] [] h c := by
  induction n with
  | zero => intro q h c hf; cases hf
  | succ n ih => intro q h c hf; exact sX5_reckonPart_b12 l G a0 a1 ρ h2 cT _ ih _ _ _ _ _ _ hf
def fX5_reckonPart (G : sd_G) (a0 : Nat) (a1 : Int32) : sd_M Int32 :=
  sd_bnd (sd_getR G 4 4 a0) fun v1 =>
  sd_bnd (sd_getR G 5 14 v1) fun v2 =>
  sd_bnd (sd_aldI G 0 v2 a1) fun v3 =>
  sd_loop (fun k s => fX5_reckonPart_b12 G k s.1 s.2.1 s.2.2.1 s.2.2.2) sd_FU (a0, a1, 0, v3)
set_option maxHeartbeats 4000000 in
theorem sX5_reckonPart (l : Launch) (G : sd_G) (a0 : Nat) (a1 : Int32) (h : sd_H) (ρ : Int32) (cT : Nat × Nat) (h2 : sd_H) (hf : fX5_reckonPart G a0 a1 h = some (ρ, cT, h2)) : sd_Met mX5_reckonPart ((l, G), (4, 88), [.ref a0, .int a1], (sd_oI ρ, h2), cT) h := by
  refine sd_entry (plainFor_of_name rfl) rfl (Nat.le_of_ble_eq_true rfl) ?_
  show sd_J mX5_reckonPart ((l, G), (4, 88), [.ref a0, .int a1], (sd_oI ρ, h2), cT) 0 [(0, .ref a0), (1, .int a1)] [] h cT
  unfold fX5_reckonPart at hf
  refine sj_iconst (v := 0) dX5_reckonPart_0 (by decide) ?_
  refine sj_istore_n [(2, .int 0), (0, .ref a0), (1, .int a1)] dX5_reckonPart_1 (by decide) rfl ?_
  refine sj_aload_n 1 dX5_reckonPart_2 rfl ?_
  refine sj_getR fdX5_20_4 hf dX5_reckonPart_3 (fun v1 hf => ?_)
  refine sj_getR fdX5_182_5 hf dX5_reckonPart_6 (fun v2 hf => ?_)
  refine sj_iload_n 2 dX5_reckonPart_9 rfl ?_
  refine sj_iald hf dX5_reckonPart_10 (fun v3 hf => ?_)
  refine sj_istore_n [(3, .int v3), (2, .int 0), (0, .ref a0), (1, .int a1)] dX5_reckonPart_11 (by decide) rfl ?_
  exact sj_loc [2, 3, 1, 0] rfl (sX5_reckonPart_b12_loop l G a0 a1 ρ h2 cT sd_FU (a0, a1, 0, v3) _ _ hf)
/-! SofaDigModel.isCarriedOut(I)Z -/
abbrev cX5_isCarriedOut : ByteArray := prog_46_method_31_code
def yX5_isCarriedOut : MethodName := ⟨RX5, "isCarriedOut", "(I)Z"⟩
def dkwX5_isCarriedOut_6 : List UInt8 := [182, 0, 103, 87, 4, 172]
abbrev dktX5_isCarriedOut_6 : List UInt8 := dkwX5_isCarriedOut_6 ++ []
def dkwX5_isCarriedOut_5 : List UInt8 := [182, 0, 82, 154, 0, 5, 3, 172, 42, 180, 0, 40, 7, 92, 46, 4, 28, 120, 2, 130, 126, 79, 42]
abbrev dktX5_isCarriedOut_5 : List UInt8 := dkwX5_isCarriedOut_5 ++ dktX5_isCarriedOut_6
def dkwX5_isCarriedOut_4 : List UInt8 := [153, 0, 5, 3, 172, 42, 180, 0, 40, 7, 92, 46, 4, 28, 120, 128, 79, 167, 0, 32, 42, 28]
abbrev dktX5_isCarriedOut_4 : List UInt8 := dkwX5_isCarriedOut_4 ++ dktX5_isCarriedOut_5
def dkwX5_isCarriedOut_3 : List UInt8 := [180, 0, 154, 27, 46, 16, 12, 160, 0, 35, 42, 28, 182, 0, 82, 154, 0, 10, 42, 182, 0, 160]
abbrev dktX5_isCarriedOut_3 : List UInt8 := dkwX5_isCarriedOut_3 ++ dktX5_isCarriedOut_4
def dkwX5_isCarriedOut_2 : List UInt8 := [42, 28, 182, 0, 74, 154, 0, 5, 3, 172, 42, 28, 182, 0, 157, 87, 167, 0, 78, 42, 180, 0, 20]
abbrev dktX5_isCarriedOut_2 : List UInt8 := dkwX5_isCarriedOut_2 ++ dktX5_isCarriedOut_3
def dkwX5_isCarriedOut_1 : List UInt8 := [180, 0, 20, 180, 0, 52, 184, 0, 151, 61, 42, 180, 0, 20, 180, 0, 154, 27, 46, 16, 11, 160, 0, 22]
abbrev dktX5_isCarriedOut_1 : List UInt8 := dkwX5_isCarriedOut_1 ++ dktX5_isCarriedOut_2
def dkwX5_isCarriedOut_0 : List UInt8 := [42, 5, 27, 104, 4, 96, 182, 0, 148, 4, 159, 0, 5, 3, 172, 42, 5, 27, 104, 182, 0, 148, 42]
abbrev dktX5_isCarriedOut_0 : List UInt8 := dkwX5_isCarriedOut_0 ++ dktX5_isCarriedOut_1
theorem dksX5_isCarriedOut_0 : cX5_isCarriedOut.data.toList.drop 0 = dktX5_isCarriedOut_0 := by decide +kernel
theorem dksX5_isCarriedOut_1 : cX5_isCarriedOut.data.toList.drop 23 = dktX5_isCarriedOut_1 := dk_seg dksX5_isCarriedOut_0 23 rfl rfl
theorem dksX5_isCarriedOut_2 : cX5_isCarriedOut.data.toList.drop 47 = dktX5_isCarriedOut_2 := dk_seg dksX5_isCarriedOut_1 24 rfl rfl
theorem dksX5_isCarriedOut_3 : cX5_isCarriedOut.data.toList.drop 70 = dktX5_isCarriedOut_3 := dk_seg dksX5_isCarriedOut_2 23 rfl rfl
theorem dksX5_isCarriedOut_4 : cX5_isCarriedOut.data.toList.drop 92 = dktX5_isCarriedOut_4 := dk_seg dksX5_isCarriedOut_3 22 rfl rfl
theorem dksX5_isCarriedOut_5 : cX5_isCarriedOut.data.toList.drop 114 = dktX5_isCarriedOut_5 := dk_seg dksX5_isCarriedOut_4 22 rfl rfl
theorem dksX5_isCarriedOut_6 : cX5_isCarriedOut.data.toList.drop 137 = dktX5_isCarriedOut_6 := dk_seg dksX5_isCarriedOut_5 23 rfl rfl
theorem dX5_isCarriedOut_0 : decode cX5_isCarriedOut 0 = .ok (.aload_n 0, 1) := dk_42 (dk_at dksX5_isCarriedOut_0 0 rfl rfl)
theorem dX5_isCarriedOut_1 : decode cX5_isCarriedOut 1 = .ok (.iconst 2, 1) := dk_5 (dk_at dksX5_isCarriedOut_0 1 rfl rfl)
theorem dX5_isCarriedOut_2 : decode cX5_isCarriedOut 2 = .ok (.iload_n 1, 1) := dk_27 (dk_at dksX5_isCarriedOut_0 2 rfl rfl)
theorem dX5_isCarriedOut_3 : decode cX5_isCarriedOut 3 = .ok (.imul, 1) := dk_104 (dk_at dksX5_isCarriedOut_0 3 rfl rfl)
theorem dX5_isCarriedOut_4 : decode cX5_isCarriedOut 4 = .ok (.iconst 1, 1) := dk_4 (dk_at dksX5_isCarriedOut_0 4 rfl rfl)
theorem dX5_isCarriedOut_5 : decode cX5_isCarriedOut 5 = .ok (.iadd, 1) := dk_96 (dk_at dksX5_isCarriedOut_0 5 rfl rfl)
theorem dX5_isCarriedOut_6 : decode cX5_isCarriedOut 6 = .ok (.invokevirtual 148, 3) := dk_182 0 148 (dk_at dksX5_isCarriedOut_0 6 rfl rfl)
theorem dX5_isCarriedOut_9 : decode cX5_isCarriedOut 9 = .ok (.iconst 1, 1) := dk_4 (dk_at dksX5_isCarriedOut_0 9 rfl rfl)
theorem dX5_isCarriedOut_10 : decode cX5_isCarriedOut 10 = .ok (.if_icmp .eq 5, 3) := dk_159 0 5 (dk_at dksX5_isCarriedOut_0 10 rfl rfl)
theorem dX5_isCarriedOut_13 : decode cX5_isCarriedOut 13 = .ok (.iconst 0, 1) := dk_3 (dk_at dksX5_isCarriedOut_0 13 rfl rfl)
theorem dX5_isCarriedOut_14 : decode cX5_isCarriedOut 14 = .ok (.ireturn, 1) := dk_172 (dk_at dksX5_isCarriedOut_0 14 rfl rfl)
theorem dX5_isCarriedOut_15 : decode cX5_isCarriedOut 15 = .ok (.aload_n 0, 1) := dk_42 (dk_at dksX5_isCarriedOut_0 15 rfl rfl)
theorem dX5_isCarriedOut_16 : decode cX5_isCarriedOut 16 = .ok (.iconst 2, 1) := dk_5 (dk_at dksX5_isCarriedOut_0 16 rfl rfl)
theorem dX5_isCarriedOut_17 : decode cX5_isCarriedOut 17 = .ok (.iload_n 1, 1) := dk_27 (dk_at dksX5_isCarriedOut_0 17 rfl rfl)
theorem dX5_isCarriedOut_18 : decode cX5_isCarriedOut 18 = .ok (.imul, 1) := dk_104 (dk_at dksX5_isCarriedOut_0 18 rfl rfl)
theorem dX5_isCarriedOut_19 : decode cX5_isCarriedOut 19 = .ok (.invokevirtual 148, 3) := dk_182 0 148 (dk_at dksX5_isCarriedOut_0 19 rfl rfl)
theorem dX5_isCarriedOut_22 : decode cX5_isCarriedOut 22 = .ok (.aload_n 0, 1) := dk_42 (dk_at dksX5_isCarriedOut_0 22 rfl rfl)
theorem dX5_isCarriedOut_23 : decode cX5_isCarriedOut 23 = .ok (.getfield 20, 3) := dk_180 0 20 (dk_at dksX5_isCarriedOut_1 0 rfl rfl)
theorem dX5_isCarriedOut_26 : decode cX5_isCarriedOut 26 = .ok (.getfield 52, 3) := dk_180 0 52 (dk_at dksX5_isCarriedOut_1 3 rfl rfl)
theorem dX5_isCarriedOut_29 : decode cX5_isCarriedOut 29 = .ok (.invokestatic 151, 3) := dk_184 0 151 (dk_at dksX5_isCarriedOut_1 6 rfl rfl)
theorem dX5_isCarriedOut_32 : decode cX5_isCarriedOut 32 = .ok (.istore_n 2, 1) := dk_61 (dk_at dksX5_isCarriedOut_1 9 rfl rfl)
theorem dX5_isCarriedOut_33 : decode cX5_isCarriedOut 33 = .ok (.aload_n 0, 1) := dk_42 (dk_at dksX5_isCarriedOut_1 10 rfl rfl)
theorem dX5_isCarriedOut_34 : decode cX5_isCarriedOut 34 = .ok (.getfield 20, 3) := dk_180 0 20 (dk_at dksX5_isCarriedOut_1 11 rfl rfl)
theorem dX5_isCarriedOut_37 : decode cX5_isCarriedOut 37 = .ok (.getfield 154, 3) := dk_180 0 154 (dk_at dksX5_isCarriedOut_1 14 rfl rfl)
theorem dX5_isCarriedOut_40 : decode cX5_isCarriedOut 40 = .ok (.iload_n 1, 1) := dk_27 (dk_at dksX5_isCarriedOut_1 17 rfl rfl)
theorem dX5_isCarriedOut_41 : decode cX5_isCarriedOut 41 = .ok (.iaload, 1) := dk_46 (dk_at dksX5_isCarriedOut_1 18 rfl rfl)
theorem dX5_isCarriedOut_42 : decode cX5_isCarriedOut 42 = .ok (.bipush 11, 2) := dk_16 11 (dk_at dksX5_isCarriedOut_1 19 rfl rfl)
theorem dX5_isCarriedOut_44 : decode cX5_isCarriedOut 44 = .ok (.if_icmp .ne 22, 3) := dk_160 0 22 (dk_at dksX5_isCarriedOut_1 21 rfl rfl)
theorem dX5_isCarriedOut_47 : decode cX5_isCarriedOut 47 = .ok (.aload_n 0, 1) := dk_42 (dk_at dksX5_isCarriedOut_2 0 rfl rfl)
theorem dX5_isCarriedOut_48 : decode cX5_isCarriedOut 48 = .ok (.iload_n 2, 1) := dk_28 (dk_at dksX5_isCarriedOut_2 1 rfl rfl)
theorem dX5_isCarriedOut_49 : decode cX5_isCarriedOut 49 = .ok (.invokevirtual 74, 3) := dk_182 0 74 (dk_at dksX5_isCarriedOut_2 2 rfl rfl)
theorem dX5_isCarriedOut_52 : decode cX5_isCarriedOut 52 = .ok (.ifCond .ne 5, 3) := dk_154 0 5 (dk_at dksX5_isCarriedOut_2 5 rfl rfl)
theorem dX5_isCarriedOut_55 : decode cX5_isCarriedOut 55 = .ok (.iconst 0, 1) := dk_3 (dk_at dksX5_isCarriedOut_2 8 rfl rfl)
theorem dX5_isCarriedOut_56 : decode cX5_isCarriedOut 56 = .ok (.ireturn, 1) := dk_172 (dk_at dksX5_isCarriedOut_2 9 rfl rfl)
theorem dX5_isCarriedOut_57 : decode cX5_isCarriedOut 57 = .ok (.aload_n 0, 1) := dk_42 (dk_at dksX5_isCarriedOut_2 10 rfl rfl)
theorem dX5_isCarriedOut_58 : decode cX5_isCarriedOut 58 = .ok (.iload_n 2, 1) := dk_28 (dk_at dksX5_isCarriedOut_2 11 rfl rfl)
theorem dX5_isCarriedOut_59 : decode cX5_isCarriedOut 59 = .ok (.invokevirtual 157, 3) := dk_182 0 157 (dk_at dksX5_isCarriedOut_2 12 rfl rfl)
theorem dX5_isCarriedOut_62 : decode cX5_isCarriedOut 62 = .ok (.pop, 1) := dk_87 (dk_at dksX5_isCarriedOut_2 15 rfl rfl)
theorem dX5_isCarriedOut_63 : decode cX5_isCarriedOut 63 = .ok (.goto 78, 3) := dk_167 0 78 (dk_at dksX5_isCarriedOut_2 16 rfl rfl)
theorem dX5_isCarriedOut_66 : decode cX5_isCarriedOut 66 = .ok (.aload_n 0, 1) := dk_42 (dk_at dksX5_isCarriedOut_2 19 rfl rfl)
theorem dX5_isCarriedOut_67 : decode cX5_isCarriedOut 67 = .ok (.getfield 20, 3) := dk_180 0 20 (dk_at dksX5_isCarriedOut_2 20 rfl rfl)
theorem dX5_isCarriedOut_70 : decode cX5_isCarriedOut 70 = .ok (.getfield 154, 3) := dk_180 0 154 (dk_at dksX5_isCarriedOut_3 0 rfl rfl)
theorem dX5_isCarriedOut_73 : decode cX5_isCarriedOut 73 = .ok (.iload_n 1, 1) := dk_27 (dk_at dksX5_isCarriedOut_3 3 rfl rfl)
theorem dX5_isCarriedOut_74 : decode cX5_isCarriedOut 74 = .ok (.iaload, 1) := dk_46 (dk_at dksX5_isCarriedOut_3 4 rfl rfl)
theorem dX5_isCarriedOut_75 : decode cX5_isCarriedOut 75 = .ok (.bipush 12, 2) := dk_16 12 (dk_at dksX5_isCarriedOut_3 5 rfl rfl)
theorem dX5_isCarriedOut_77 : decode cX5_isCarriedOut 77 = .ok (.if_icmp .ne 35, 3) := dk_160 0 35 (dk_at dksX5_isCarriedOut_3 7 rfl rfl)
theorem dX5_isCarriedOut_80 : decode cX5_isCarriedOut 80 = .ok (.aload_n 0, 1) := dk_42 (dk_at dksX5_isCarriedOut_3 10 rfl rfl)
theorem dX5_isCarriedOut_81 : decode cX5_isCarriedOut 81 = .ok (.iload_n 2, 1) := dk_28 (dk_at dksX5_isCarriedOut_3 11 rfl rfl)
theorem dX5_isCarriedOut_82 : decode cX5_isCarriedOut 82 = .ok (.invokevirtual 82, 3) := dk_182 0 82 (dk_at dksX5_isCarriedOut_3 12 rfl rfl)
theorem dX5_isCarriedOut_85 : decode cX5_isCarriedOut 85 = .ok (.ifCond .ne 10, 3) := dk_154 0 10 (dk_at dksX5_isCarriedOut_3 15 rfl rfl)
theorem dX5_isCarriedOut_88 : decode cX5_isCarriedOut 88 = .ok (.aload_n 0, 1) := dk_42 (dk_at dksX5_isCarriedOut_3 18 rfl rfl)
theorem dX5_isCarriedOut_89 : decode cX5_isCarriedOut 89 = .ok (.invokevirtual 160, 3) := dk_182 0 160 (dk_at dksX5_isCarriedOut_3 19 rfl rfl)
theorem dX5_isCarriedOut_92 : decode cX5_isCarriedOut 92 = .ok (.ifCond .eq 5, 3) := dk_153 0 5 (dk_at dksX5_isCarriedOut_4 0 rfl rfl)
theorem dX5_isCarriedOut_95 : decode cX5_isCarriedOut 95 = .ok (.iconst 0, 1) := dk_3 (dk_at dksX5_isCarriedOut_4 3 rfl rfl)
theorem dX5_isCarriedOut_96 : decode cX5_isCarriedOut 96 = .ok (.ireturn, 1) := dk_172 (dk_at dksX5_isCarriedOut_4 4 rfl rfl)
theorem dX5_isCarriedOut_97 : decode cX5_isCarriedOut 97 = .ok (.aload_n 0, 1) := dk_42 (dk_at dksX5_isCarriedOut_4 5 rfl rfl)
theorem dX5_isCarriedOut_98 : decode cX5_isCarriedOut 98 = .ok (.getfield 40, 3) := dk_180 0 40 (dk_at dksX5_isCarriedOut_4 6 rfl rfl)
theorem dX5_isCarriedOut_101 : decode cX5_isCarriedOut 101 = .ok (.iconst 4, 1) := dk_7 (dk_at dksX5_isCarriedOut_4 9 rfl rfl)
theorem dX5_isCarriedOut_102 : decode cX5_isCarriedOut 102 = .ok (.dup2, 1) := dk_92 (dk_at dksX5_isCarriedOut_4 10 rfl rfl)
theorem dX5_isCarriedOut_103 : decode cX5_isCarriedOut 103 = .ok (.iaload, 1) := dk_46 (dk_at dksX5_isCarriedOut_4 11 rfl rfl)
theorem dX5_isCarriedOut_104 : decode cX5_isCarriedOut 104 = .ok (.iconst 1, 1) := dk_4 (dk_at dksX5_isCarriedOut_4 12 rfl rfl)
theorem dX5_isCarriedOut_105 : decode cX5_isCarriedOut 105 = .ok (.iload_n 2, 1) := dk_28 (dk_at dksX5_isCarriedOut_4 13 rfl rfl)
theorem dX5_isCarriedOut_106 : decode cX5_isCarriedOut 106 = .ok (.ishl, 1) := dk_120 (dk_at dksX5_isCarriedOut_4 14 rfl rfl)
theorem dX5_isCarriedOut_107 : decode cX5_isCarriedOut 107 = .ok (.ior, 1) := dk_128 (dk_at dksX5_isCarriedOut_4 15 rfl rfl)
theorem dX5_isCarriedOut_108 : decode cX5_isCarriedOut 108 = .ok (.iastore, 1) := dk_79 (dk_at dksX5_isCarriedOut_4 16 rfl rfl)
theorem dX5_isCarriedOut_109 : decode cX5_isCarriedOut 109 = .ok (.goto 32, 3) := dk_167 0 32 (dk_at dksX5_isCarriedOut_4 17 rfl rfl)
theorem dX5_isCarriedOut_112 : decode cX5_isCarriedOut 112 = .ok (.aload_n 0, 1) := dk_42 (dk_at dksX5_isCarriedOut_4 20 rfl rfl)
theorem dX5_isCarriedOut_113 : decode cX5_isCarriedOut 113 = .ok (.iload_n 2, 1) := dk_28 (dk_at dksX5_isCarriedOut_4 21 rfl rfl)
theorem dX5_isCarriedOut_114 : decode cX5_isCarriedOut 114 = .ok (.invokevirtual 82, 3) := dk_182 0 82 (dk_at dksX5_isCarriedOut_5 0 rfl rfl)
theorem dX5_isCarriedOut_117 : decode cX5_isCarriedOut 117 = .ok (.ifCond .ne 5, 3) := dk_154 0 5 (dk_at dksX5_isCarriedOut_5 3 rfl rfl)
theorem dX5_isCarriedOut_120 : decode cX5_isCarriedOut 120 = .ok (.iconst 0, 1) := dk_3 (dk_at dksX5_isCarriedOut_5 6 rfl rfl)
theorem dX5_isCarriedOut_121 : decode cX5_isCarriedOut 121 = .ok (.ireturn, 1) := dk_172 (dk_at dksX5_isCarriedOut_5 7 rfl rfl)
theorem dX5_isCarriedOut_122 : decode cX5_isCarriedOut 122 = .ok (.aload_n 0, 1) := dk_42 (dk_at dksX5_isCarriedOut_5 8 rfl rfl)
theorem dX5_isCarriedOut_123 : decode cX5_isCarriedOut 123 = .ok (.getfield 40, 3) := dk_180 0 40 (dk_at dksX5_isCarriedOut_5 9 rfl rfl)
theorem dX5_isCarriedOut_126 : decode cX5_isCarriedOut 126 = .ok (.iconst 4, 1) := dk_7 (dk_at dksX5_isCarriedOut_5 12 rfl rfl)
theorem dX5_isCarriedOut_127 : decode cX5_isCarriedOut 127 = .ok (.dup2, 1) := dk_92 (dk_at dksX5_isCarriedOut_5 13 rfl rfl)
theorem dX5_isCarriedOut_128 : decode cX5_isCarriedOut 128 = .ok (.iaload, 1) := dk_46 (dk_at dksX5_isCarriedOut_5 14 rfl rfl)
theorem dX5_isCarriedOut_129 : decode cX5_isCarriedOut 129 = .ok (.iconst 1, 1) := dk_4 (dk_at dksX5_isCarriedOut_5 15 rfl rfl)
theorem dX5_isCarriedOut_130 : decode cX5_isCarriedOut 130 = .ok (.iload_n 2, 1) := dk_28 (dk_at dksX5_isCarriedOut_5 16 rfl rfl)
theorem dX5_isCarriedOut_131 : decode cX5_isCarriedOut 131 = .ok (.ishl, 1) := dk_120 (dk_at dksX5_isCarriedOut_5 17 rfl rfl)
theorem dX5_isCarriedOut_132 : decode cX5_isCarriedOut 132 = .ok (.iconst (-1), 1) := dk_2 (dk_at dksX5_isCarriedOut_5 18 rfl rfl)
theorem dX5_isCarriedOut_133 : decode cX5_isCarriedOut 133 = .ok (.ixor, 1) := dk_130 (dk_at dksX5_isCarriedOut_5 19 rfl rfl)
theorem dX5_isCarriedOut_134 : decode cX5_isCarriedOut 134 = .ok (.iand, 1) := dk_126 (dk_at dksX5_isCarriedOut_5 20 rfl rfl)
theorem dX5_isCarriedOut_135 : decode cX5_isCarriedOut 135 = .ok (.iastore, 1) := dk_79 (dk_at dksX5_isCarriedOut_5 21 rfl rfl)
theorem dX5_isCarriedOut_136 : decode cX5_isCarriedOut 136 = .ok (.aload_n 0, 1) := dk_42 (dk_at dksX5_isCarriedOut_5 22 rfl rfl)
theorem dX5_isCarriedOut_137 : decode cX5_isCarriedOut 137 = .ok (.invokevirtual 103, 3) := dk_182 0 103 (dk_at dksX5_isCarriedOut_6 0 rfl rfl)
theorem dX5_isCarriedOut_140 : decode cX5_isCarriedOut 140 = .ok (.pop, 1) := dk_87 (dk_at dksX5_isCarriedOut_6 3 rfl rfl)
theorem dX5_isCarriedOut_141 : decode cX5_isCarriedOut 141 = .ok (.iconst 1, 1) := dk_4 (dk_at dksX5_isCarriedOut_6 4 rfl rfl)
theorem dX5_isCarriedOut_142 : decode cX5_isCarriedOut 142 = .ok (.ireturn, 1) := dk_172 (dk_at dksX5_isCarriedOut_6 5 rfl rfl)
abbrev mX5_isCarriedOut : sd_Y := (yX5_isCarriedOut, cX5_isCarriedOut, 3, some (.boolean), none)
def fX5_isCarriedOut (G : sd_G) (a0 : Nat) (a1 : Int32) : sd_M Int32 :=
  sd_bnd (sd_isC G 4 a0) fun _ =>
  sd_bnd (fX5_reckonPart G a0 (((2 : Int32) * a1) + 1)) fun r1 =>
  if r1 = 1 then (
    sd_bnd (sd_isC G 4 a0) fun _ =>
    sd_bnd (fX5_reckonPart G a0 ((2 : Int32) * a1)) fun r2 =>
    sd_bnd (sd_getR G 4 4 a0) fun v3 =>
    sd_bnd (sd_getI G 5 0 v3) fun v4 =>
    sd_bnd (fJ4_floorMod G r2 v4) fun r5 =>
    sd_bnd (sd_getR G 4 4 a0) fun v6 =>
    sd_bnd (sd_getR G 5 13 v6) fun v7 =>
    sd_bnd (sd_aldI G 0 v7 a1) fun v8 =>
    if v8 = 11 then (
      sd_bnd (sd_isC G 4 a0) fun _ =>
      sd_bnd (fX5_tall G a0 r5) fun r20 =>
      if r20 = 0 then (
        sd_ret 0)
      else (
        sd_bnd (sd_isC G 4 a0) fun _ =>
        sd_bnd (fX5_digs G a0 r5) fun r21 =>
        sd_ret 1))
    else (
      sd_bnd (sd_getR G 4 4 a0) fun v9 =>
      sd_bnd (sd_getR G 5 13 v9) fun v10 =>
      sd_bnd (sd_aldI G 0 v10 a1) fun v11 =>
      if v11 = 12 then (
        sd_bnd (sd_isC G 4 a0) fun _ =>
        sd_bnd (fX5_hasProp G a0 r5) fun r16 =>
        if r16 = 0 then (
          sd_bnd (sd_isC G 4 a0) fun _ =>
          sd_bnd (fX5_isPropped3 G a0) fun r17 =>
          if r17 = 0 then (
            sd_bnd (sd_getR G 4 15 a0) fun v18 =>
            sd_bnd (sd_aldI G 0 v18 4) fun v19 =>
            sd_bnd (sd_astI 0 v18 4 (v19 ||| ((1 : Int32) <<< (r5 &&& 31)))) fun _ =>
            sd_ret 1)
          else (
            sd_ret 0))
        else (
          sd_ret 0))
      else (
        sd_bnd (sd_isC G 4 a0) fun _ =>
        sd_bnd (fX5_hasProp G a0 r5) fun r12 =>
        if r12 = 0 then (
          sd_ret 0)
        else (
          sd_bnd (sd_getR G 4 15 a0) fun v13 =>
          sd_bnd (sd_aldI G 0 v13 4) fun v14 =>
          sd_bnd (sd_astI 0 v13 4 (v14 &&& (((1 : Int32) <<< (r5 &&& 31)) ^^^ (-1)))) fun _ =>
          sd_bnd (sd_isC G 4 a0) fun _ =>
          sd_bnd (fX5_settle_2 G a0) fun r15 =>
          sd_ret 1))))
  else (
    sd_ret 0)
set_option maxHeartbeats 4000000 in
theorem sX5_isCarriedOut (l : Launch) (G : sd_G) (a0 : Nat) (a1 : Int32) (h : sd_H) (ρ : Int32) (cT : Nat × Nat) (h2 : sd_H) (hf : fX5_isCarriedOut G a0 a1 h = some (ρ, cT, h2)) : sd_Met mX5_isCarriedOut ((l, G), (6, 133), [.ref a0, .int a1], (sd_oI ρ, h2), cT) h := by
  refine sd_entry (plainFor_of_name rfl) rfl (Nat.le_of_ble_eq_true rfl) ?_
  show sd_J mX5_isCarriedOut ((l, G), (6, 133), [.ref a0, .int a1], (sd_oI ρ, h2), cT) 0 [(0, .ref a0), (1, .int a1)] [] h cT
  unfold fX5_isCarriedOut at hf
  refine sj_aload_n 0 dX5_isCarriedOut_0 rfl ?_
  refine sj_iconst (v := 2) dX5_isCarriedOut_1 (by decide) ?_
  refine sj_iload_n 1 dX5_isCarriedOut_2 rfl ?_
  refine sj_imul dX5_isCarriedOut_3 ?_
  refine sj_iconst (v := 1) dX5_isCarriedOut_4 (by decide) ?_
  refine sj_iadd dX5_isCarriedOut_5 ?_
  obtain ⟨fs6, he6, hf⟩ := sd_isC_some hf
  refine sj_cI (rest := []) (fun _ _ _ e => sj_runV (n := 1) (As := [.int (((2 : Int32) * a1) + 1)]) (rest := []) (sX5_reckonPart l G a0 (((2 : Int32) * a1) + 1) h _ _ _ e) he6 rfl rfl rfl rfl q3343 q3345 qs107 q127 q3346 (by decide +kernel) rfl rfl ⟨Nat.le_of_ble_eq_true rfl, Nat.le_of_ble_eq_true rfl⟩ rfl (Nat.le_of_ble_eq_true rfl) dX5_isCarriedOut_6) hf (fun r1 h c hf => ?_)
  refine sj_iconst (v := 1) dX5_isCarriedOut_9 (by decide) ?_
  refine sj_iceq 15 hf dX5_isCarriedOut_10 (by decide) (fun g10 hf => ?_) (fun g10 hf => ?_)
  · refine sj_aload_n 0 dX5_isCarriedOut_15 rfl ?_
    refine sj_iconst (v := 2) dX5_isCarriedOut_16 (by decide) ?_
    refine sj_iload_n 1 dX5_isCarriedOut_17 rfl ?_
    refine sj_imul dX5_isCarriedOut_18 ?_
    obtain ⟨fs19, he19, hf⟩ := sd_isC_some hf
    refine sj_cI (rest := []) (fun _ _ _ e => sj_runV (n := 1) (As := [.int ((2 : Int32) * a1)]) (rest := []) (sX5_reckonPart l G a0 ((2 : Int32) * a1) h _ _ _ e) he19 rfl rfl rfl rfl q3343 q3345 qs107 q127 q3346 (by decide +kernel) rfl rfl ⟨Nat.le_of_ble_eq_true rfl, Nat.le_of_ble_eq_true rfl⟩ rfl (Nat.le_of_ble_eq_true rfl) dX5_isCarriedOut_19) hf (fun r2 h c hf => ?_)
    refine sj_aload_n 0 dX5_isCarriedOut_22 rfl ?_
    refine sj_getR fdX5_20_4 hf dX5_isCarriedOut_23 (fun v3 hf => ?_)
    refine sj_getI fdX5_52_5 hf dX5_isCarriedOut_26 (fun v4 hf => ?_)
    refine sj_cI (rest := []) (fun _ _ _ e => sj_runS (n := 2) (rest := []) (sJ4_floorMod l G r2 v4 h _ _ _ e) rfl rfl q3365 q3366 q124 q3367 (by decide +kernel) rfl ⟨Nat.le_of_ble_eq_true rfl, Nat.le_of_ble_eq_true rfl⟩ rfl (Nat.le_of_ble_eq_true rfl) dX5_isCarriedOut_29) hf (fun r5 h c hf => ?_)
    refine sj_istore_n [(2, .int r5), (0, .ref a0), (1, .int a1)] dX5_isCarriedOut_32 (by decide) rfl ?_
    refine sj_aload_n 1 dX5_isCarriedOut_33 rfl ?_
    refine sj_getR fdX5_20_4 hf dX5_isCarriedOut_34 (fun v6 hf => ?_)
    refine sj_getR fdX5_154_5 hf dX5_isCarriedOut_37 (fun v7 hf => ?_)
    refine sj_iload_n 2 dX5_isCarriedOut_40 rfl ?_
    refine sj_iald hf dX5_isCarriedOut_41 (fun v8 hf => ?_)
    refine sj_bipush (v := 11) dX5_isCarriedOut_42 (by decide) ?_
    refine sj_icne 66 hf dX5_isCarriedOut_44 (by decide) (fun g44 hf => ?_) (fun g44 hf => ?_)
    · refine sj_aload_n 1 dX5_isCarriedOut_66 rfl ?_
      refine sj_getR fdX5_20_4 hf dX5_isCarriedOut_67 (fun v9 hf => ?_)
      refine sj_getR fdX5_154_5 hf dX5_isCarriedOut_70 (fun v10 hf => ?_)
      refine sj_iload_n 2 dX5_isCarriedOut_73 rfl ?_
      refine sj_iald hf dX5_isCarriedOut_74 (fun v11 hf => ?_)
      refine sj_bipush (v := 12) dX5_isCarriedOut_75 (by decide) ?_
      refine sj_icne 112 hf dX5_isCarriedOut_77 (by decide) (fun g77 hf => ?_) (fun g77 hf => ?_)
      · refine sj_aload_n 1 dX5_isCarriedOut_112 rfl ?_
        refine sj_iload_n 0 dX5_isCarriedOut_113 rfl ?_
        obtain ⟨fs114, he114, hf⟩ := sd_isC_some hf
        refine sj_cI (rest := []) (fun _ _ _ e => sj_runV (n := 1) (As := [.int r5]) (rest := []) (sX5_hasProp l G a0 r5 h _ _ _ e) he114 rfl rfl rfl rfl q3186 q3188 qs86 q127 q3189 (by decide +kernel) rfl rfl ⟨Nat.le_of_ble_eq_true rfl, Nat.le_of_ble_eq_true rfl⟩ rfl (Nat.le_of_ble_eq_true rfl) dX5_isCarriedOut_114) hf (fun r12 h c hf => ?_)
        refine sj_ifne 122 hf dX5_isCarriedOut_117 (by decide) (fun g117 hf => ?_) (fun g117 hf => ?_)
        · refine sj_aload_n 1 dX5_isCarriedOut_122 rfl ?_
          refine sj_getR fdX5_40_4 hf dX5_isCarriedOut_123 (fun v13 hf => ?_)
          refine sj_iconst (v := 4) dX5_isCarriedOut_126 (by decide) ?_
          refine sj_dup2 dX5_isCarriedOut_127 rfl rfl ?_
          refine sj_iald hf dX5_isCarriedOut_128 (fun v14 hf => ?_)
          refine sj_iconst (v := 1) dX5_isCarriedOut_129 (by decide) ?_
          refine sj_iload_n 0 dX5_isCarriedOut_130 rfl ?_
          refine sj_ishl dX5_isCarriedOut_131 ?_
          refine sj_iconst (v := (-1)) dX5_isCarriedOut_132 (by decide) ?_
          refine sj_ixor dX5_isCarriedOut_133 ?_
          refine sj_iand dX5_isCarriedOut_134 ?_
          refine sj_iast hf dX5_isCarriedOut_135 (fun h hf => ?_)
          refine sj_aload_n 1 dX5_isCarriedOut_136 rfl ?_
          obtain ⟨fs137, he137, hf⟩ := sd_isC_some hf
          refine sj_cI (rest := []) (fun _ _ _ e => sj_runV (n := 0) (As := []) (rest := []) (sX5_settle_2 l G a0 h _ _ _ e) he137 rfl rfl rfl rfl q3307 q3309 qs101 q127 q3310 (by decide +kernel) rfl rfl ⟨Nat.le_of_ble_eq_true rfl, Nat.le_of_ble_eq_true rfl⟩ rfl (Nat.le_of_ble_eq_true rfl) dX5_isCarriedOut_137) hf (fun r15 h c hf => ?_)
          refine sj_pop dX5_isCarriedOut_140 rfl ?_
          refine sj_iconst (v := 1) dX5_isCarriedOut_141 (by decide) ?_
          exact sj_zretC (o := sd_oI) (ty := .boolean) rfl hf rfl rfl rfl dX5_isCarriedOut_142
        · refine sj_iconst (v := 0) dX5_isCarriedOut_120 (by decide) ?_
          exact sj_zretC (o := sd_oI) (ty := .boolean) rfl hf rfl rfl rfl dX5_isCarriedOut_121
      · refine sj_aload_n 1 dX5_isCarriedOut_80 rfl ?_
        refine sj_iload_n 0 dX5_isCarriedOut_81 rfl ?_
        obtain ⟨fs82, he82, hf⟩ := sd_isC_some hf
        refine sj_cI (rest := []) (fun _ _ _ e => sj_runV (n := 1) (As := [.int r5]) (rest := []) (sX5_hasProp l G a0 r5 h _ _ _ e) he82 rfl rfl rfl rfl q3186 q3188 qs86 q127 q3189 (by decide +kernel) rfl rfl ⟨Nat.le_of_ble_eq_true rfl, Nat.le_of_ble_eq_true rfl⟩ rfl (Nat.le_of_ble_eq_true rfl) dX5_isCarriedOut_82) hf (fun r16 h c hf => ?_)
        refine sj_ifne 95 hf dX5_isCarriedOut_85 (by decide) (fun g85 hf => ?_) (fun g85 hf => ?_)
        · refine sj_iconst (v := 0) dX5_isCarriedOut_95 (by decide) ?_
          exact sj_zretC (o := sd_oI) (ty := .boolean) rfl hf rfl rfl rfl dX5_isCarriedOut_96
        · refine sj_aload_n 1 dX5_isCarriedOut_88 rfl ?_
          obtain ⟨fs89, he89, hf⟩ := sd_isC_some hf
          refine sj_cI (rest := []) (fun _ _ _ e => sj_runV (n := 0) (As := []) (rest := []) (sX5_isPropped3 l G a0 h _ _ _ e) he89 rfl rfl rfl rfl q3323 q3325 qs104 q127 q3326 (by decide +kernel) rfl rfl ⟨Nat.le_of_ble_eq_true rfl, Nat.le_of_ble_eq_true rfl⟩ rfl (Nat.le_of_ble_eq_true rfl) dX5_isCarriedOut_89) hf (fun r17 h c hf => ?_)
          refine sj_ifeq 97 hf dX5_isCarriedOut_92 (by decide) (fun g92 hf => ?_) (fun g92 hf => ?_)
          · refine sj_aload_n 1 dX5_isCarriedOut_97 rfl ?_
            refine sj_getR fdX5_40_4 hf dX5_isCarriedOut_98 (fun v18 hf => ?_)
            refine sj_iconst (v := 4) dX5_isCarriedOut_101 (by decide) ?_
            refine sj_dup2 dX5_isCarriedOut_102 rfl rfl ?_
            refine sj_iald hf dX5_isCarriedOut_103 (fun v19 hf => ?_)
            refine sj_iconst (v := 1) dX5_isCarriedOut_104 (by decide) ?_
            refine sj_iload_n 0 dX5_isCarriedOut_105 rfl ?_
            refine sj_ishl dX5_isCarriedOut_106 ?_
            refine sj_ior dX5_isCarriedOut_107 ?_
            refine sj_iast hf dX5_isCarriedOut_108 (fun h hf => ?_)
            refine sj_goto 141 dX5_isCarriedOut_109 (by decide) ?_
            refine sj_iconst (v := 1) dX5_isCarriedOut_141 (by decide) ?_
            exact sj_zretC (o := sd_oI) (ty := .boolean) rfl hf rfl rfl rfl dX5_isCarriedOut_142
          · refine sj_iconst (v := 0) dX5_isCarriedOut_95 (by decide) ?_
            exact sj_zretC (o := sd_oI) (ty := .boolean) rfl hf rfl rfl rfl dX5_isCarriedOut_96
    · refine sj_aload_n 1 dX5_isCarriedOut_47 rfl ?_
      refine sj_iload_n 0 dX5_isCarriedOut_48 rfl ?_
      obtain ⟨fs49, he49, hf⟩ := sd_isC_some hf
      refine sj_cI (rest := []) (fun _ _ _ e => sj_runV (n := 1) (As := [.int r5]) (rest := []) (sX5_tall l G a0 r5 h _ _ _ e) he49 rfl rfl rfl rfl q3178 q3180 qs85 q127 q3181 (by decide +kernel) rfl rfl ⟨Nat.le_of_ble_eq_true rfl, Nat.le_of_ble_eq_true rfl⟩ rfl (Nat.le_of_ble_eq_true rfl) dX5_isCarriedOut_49) hf (fun r20 h c hf => ?_)
      refine sj_ifne 57 hf dX5_isCarriedOut_52 (by decide) (fun g52 hf => ?_) (fun g52 hf => ?_)
      · refine sj_aload_n 1 dX5_isCarriedOut_57 rfl ?_
        refine sj_iload_n 0 dX5_isCarriedOut_58 rfl ?_
        obtain ⟨fs59, he59, hf⟩ := sd_isC_some hf
        refine sj_cI (rest := []) (fun _ _ _ e => sj_runV (n := 1) (As := [.int r5]) (rest := []) (sX5_digs l G a0 r5 h _ _ _ e) he59 rfl rfl rfl rfl q3303 q3305 qs100 q127 q3306 (by decide +kernel) rfl rfl ⟨Nat.le_of_ble_eq_true rfl, Nat.le_of_ble_eq_true rfl⟩ rfl (Nat.le_of_ble_eq_true rfl) dX5_isCarriedOut_59) hf (fun r21 h c hf => ?_)
        refine sj_pop dX5_isCarriedOut_62 rfl ?_
        refine sj_goto 141 dX5_isCarriedOut_63 (by decide) ?_
        refine sj_iconst (v := 1) dX5_isCarriedOut_141 (by decide) ?_
        exact sj_zretC (o := sd_oI) (ty := .boolean) rfl hf rfl rfl rfl dX5_isCarriedOut_142
      · refine sj_iconst (v := 0) dX5_isCarriedOut_55 (by decide) ?_
        exact sj_zretC (o := sd_oI) (ty := .boolean) rfl hf rfl rfl rfl dX5_isCarriedOut_56
  · refine sj_iconst (v := 0) dX5_isCarriedOut_13 (by decide) ?_
    exact sj_zretC (o := sd_oI) (ty := .boolean) rfl hf rfl rfl rfl dX5_isCarriedOut_14
/-! SofaDigModel.go(I)I -/
abbrev cX5_go : ByteArray := prog_46_method_32_code
def yX5_go : MethodName := ⟨RX5, "go", "(I)I"⟩
def dkwX5_go_3 : List UInt8 := [182, 0, 164, 28, 100, 172]
abbrev dktX5_go_3 : List UInt8 := dkwX5_go_3 ++ []
def dkwX5_go_2 : List UInt8 := [132, 4, 1, 167, 255, 223, 42, 180, 0, 40, 3, 92, 46, 4, 96, 79, 132, 3, 1, 167, 255, 199, 42, 4]
abbrev dktX5_go_2 : List UInt8 := dkwX5_go_2 ++ dktX5_go_3
def dkwX5_go_1 : List UInt8 := [180, 0, 167, 162, 0, 27, 42, 180, 0, 40, 4, 92, 46, 42, 21, 4, 182, 0, 170, 184, 0, 106, 96, 79]
abbrev dktX5_go_1 : List UInt8 := dkwX5_go_1 ++ dktX5_go_2
def dkwX5_go_0 : List UInt8 := [42, 4, 182, 0, 164, 61, 3, 62, 29, 27, 162, 0, 58, 3, 54, 4, 21, 4, 42, 180, 0, 20]
abbrev dktX5_go_0 : List UInt8 := dkwX5_go_0 ++ dktX5_go_1
theorem dksX5_go_0 : cX5_go.data.toList.drop 0 = dktX5_go_0 := by decide +kernel
theorem dksX5_go_1 : cX5_go.data.toList.drop 22 = dktX5_go_1 := dk_seg dksX5_go_0 22 rfl rfl
theorem dksX5_go_2 : cX5_go.data.toList.drop 46 = dktX5_go_2 := dk_seg dksX5_go_1 24 rfl rfl
theorem dksX5_go_3 : cX5_go.data.toList.drop 70 = dktX5_go_3 := dk_seg dksX5_go_2 24 rfl rfl
theorem dX5_go_0 : decode cX5_go 0 = .ok (.aload_n 0, 1) := dk_42 (dk_at dksX5_go_0 0 rfl rfl)
theorem dX5_go_1 : decode cX5_go 1 = .ok (.iconst 1, 1) := dk_4 (dk_at dksX5_go_0 1 rfl rfl)
theorem dX5_go_2 : decode cX5_go 2 = .ok (.invokevirtual 164, 3) := dk_182 0 164 (dk_at dksX5_go_0 2 rfl rfl)
theorem dX5_go_5 : decode cX5_go 5 = .ok (.istore_n 2, 1) := dk_61 (dk_at dksX5_go_0 5 rfl rfl)
theorem dX5_go_6 : decode cX5_go 6 = .ok (.iconst 0, 1) := dk_3 (dk_at dksX5_go_0 6 rfl rfl)
theorem dX5_go_7 : decode cX5_go 7 = .ok (.istore_n 3, 1) := dk_62 (dk_at dksX5_go_0 7 rfl rfl)
theorem dX5_go_8 : decode cX5_go 8 = .ok (.iload_n 3, 1) := dk_29 (dk_at dksX5_go_0 8 rfl rfl)
theorem dX5_go_9 : decode cX5_go 9 = .ok (.iload_n 1, 1) := dk_27 (dk_at dksX5_go_0 9 rfl rfl)
theorem dX5_go_10 : decode cX5_go 10 = .ok (.if_icmp .ge 58, 3) := dk_162 0 58 (dk_at dksX5_go_0 10 rfl rfl)
theorem dX5_go_13 : decode cX5_go 13 = .ok (.iconst 0, 1) := dk_3 (dk_at dksX5_go_0 13 rfl rfl)
theorem dX5_go_14 : decode cX5_go 14 = .ok (.istore 4, 2) := dk_54 4 (dk_at dksX5_go_0 14 rfl rfl)
theorem dX5_go_16 : decode cX5_go 16 = .ok (.iload 4, 2) := dk_21 4 (dk_at dksX5_go_0 16 rfl rfl)
theorem dX5_go_18 : decode cX5_go 18 = .ok (.aload_n 0, 1) := dk_42 (dk_at dksX5_go_0 18 rfl rfl)
theorem dX5_go_19 : decode cX5_go 19 = .ok (.getfield 20, 3) := dk_180 0 20 (dk_at dksX5_go_0 19 rfl rfl)
theorem dX5_go_22 : decode cX5_go 22 = .ok (.getfield 167, 3) := dk_180 0 167 (dk_at dksX5_go_1 0 rfl rfl)
theorem dX5_go_25 : decode cX5_go 25 = .ok (.if_icmp .ge 27, 3) := dk_162 0 27 (dk_at dksX5_go_1 3 rfl rfl)
theorem dX5_go_28 : decode cX5_go 28 = .ok (.aload_n 0, 1) := dk_42 (dk_at dksX5_go_1 6 rfl rfl)
theorem dX5_go_29 : decode cX5_go 29 = .ok (.getfield 40, 3) := dk_180 0 40 (dk_at dksX5_go_1 7 rfl rfl)
theorem dX5_go_32 : decode cX5_go 32 = .ok (.iconst 1, 1) := dk_4 (dk_at dksX5_go_1 10 rfl rfl)
theorem dX5_go_33 : decode cX5_go 33 = .ok (.dup2, 1) := dk_92 (dk_at dksX5_go_1 11 rfl rfl)
theorem dX5_go_34 : decode cX5_go 34 = .ok (.iaload, 1) := dk_46 (dk_at dksX5_go_1 12 rfl rfl)
theorem dX5_go_35 : decode cX5_go 35 = .ok (.aload_n 0, 1) := dk_42 (dk_at dksX5_go_1 13 rfl rfl)
theorem dX5_go_36 : decode cX5_go 36 = .ok (.iload 4, 2) := dk_21 4 (dk_at dksX5_go_1 14 rfl rfl)
theorem dX5_go_38 : decode cX5_go 38 = .ok (.invokevirtual 170, 3) := dk_182 0 170 (dk_at dksX5_go_1 16 rfl rfl)
theorem dX5_go_41 : decode cX5_go 41 = .ok (.invokestatic 106, 3) := dk_184 0 106 (dk_at dksX5_go_1 19 rfl rfl)
theorem dX5_go_44 : decode cX5_go 44 = .ok (.iadd, 1) := dk_96 (dk_at dksX5_go_1 22 rfl rfl)
theorem dX5_go_45 : decode cX5_go 45 = .ok (.iastore, 1) := dk_79 (dk_at dksX5_go_1 23 rfl rfl)
theorem dX5_go_46 : decode cX5_go 46 = .ok (.iinc 4 1, 3) := dk_132 4 1 (dk_at dksX5_go_2 0 rfl rfl)
theorem dX5_go_49 : decode cX5_go 49 = .ok (.goto (-33), 3) := dk_167 255 223 (dk_at dksX5_go_2 3 rfl rfl)
theorem dX5_go_52 : decode cX5_go 52 = .ok (.aload_n 0, 1) := dk_42 (dk_at dksX5_go_2 6 rfl rfl)
theorem dX5_go_53 : decode cX5_go 53 = .ok (.getfield 40, 3) := dk_180 0 40 (dk_at dksX5_go_2 7 rfl rfl)
theorem dX5_go_56 : decode cX5_go 56 = .ok (.iconst 0, 1) := dk_3 (dk_at dksX5_go_2 10 rfl rfl)
theorem dX5_go_57 : decode cX5_go 57 = .ok (.dup2, 1) := dk_92 (dk_at dksX5_go_2 11 rfl rfl)
theorem dX5_go_58 : decode cX5_go 58 = .ok (.iaload, 1) := dk_46 (dk_at dksX5_go_2 12 rfl rfl)
theorem dX5_go_59 : decode cX5_go 59 = .ok (.iconst 1, 1) := dk_4 (dk_at dksX5_go_2 13 rfl rfl)
theorem dX5_go_60 : decode cX5_go 60 = .ok (.iadd, 1) := dk_96 (dk_at dksX5_go_2 14 rfl rfl)
theorem dX5_go_61 : decode cX5_go 61 = .ok (.iastore, 1) := dk_79 (dk_at dksX5_go_2 15 rfl rfl)
theorem dX5_go_62 : decode cX5_go 62 = .ok (.iinc 3 1, 3) := dk_132 3 1 (dk_at dksX5_go_2 16 rfl rfl)
theorem dX5_go_65 : decode cX5_go 65 = .ok (.goto (-57), 3) := dk_167 255 199 (dk_at dksX5_go_2 19 rfl rfl)
theorem dX5_go_68 : decode cX5_go 68 = .ok (.aload_n 0, 1) := dk_42 (dk_at dksX5_go_2 22 rfl rfl)
theorem dX5_go_69 : decode cX5_go 69 = .ok (.iconst 1, 1) := dk_4 (dk_at dksX5_go_2 23 rfl rfl)
theorem dX5_go_70 : decode cX5_go 70 = .ok (.invokevirtual 164, 3) := dk_182 0 164 (dk_at dksX5_go_3 0 rfl rfl)
theorem dX5_go_73 : decode cX5_go 73 = .ok (.iload_n 2, 1) := dk_28 (dk_at dksX5_go_3 3 rfl rfl)
theorem dX5_go_74 : decode cX5_go 74 = .ok (.isub, 1) := dk_100 (dk_at dksX5_go_3 4 rfl rfl)
theorem dX5_go_75 : decode cX5_go 75 = .ok (.ireturn, 1) := dk_172 (dk_at dksX5_go_3 5 rfl rfl)
abbrev mX5_go : sd_Y := (yX5_go, cX5_go, 5, some (.int), none)
def fX5_go_b16 (G : sd_G) (k8 : Nat × Int32 × Int32 × Int32 → sd_M Int32) (k16 : Nat × Int32 × Int32 × Int32 × Int32 → sd_M Int32) (w0 : Nat) (w1 : Int32) (w2 : Int32) (w3 : Int32) (w4 : Int32) : sd_M Int32 :=
  sd_bnd (sd_getR G 4 4 w0) fun v3 =>
  sd_bnd (sd_getI G 5 12 v3) fun v4 =>
  if v4 ≤ w4 then (
    sd_bnd (sd_getR G 4 15 w0) fun v5 =>
    sd_bnd (sd_aldI G 0 v5 0) fun v6 =>
    sd_bnd (sd_astI 0 v5 0 (v6 + 1)) fun _ =>
    sd_bnd (sd_ret (w3 + 1)) fun x7 =>
    k8 (w0, w1, w2, x7))
  else (
    sd_bnd (sd_getR G 4 15 w0) fun v8 =>
    sd_bnd (sd_aldI G 0 v8 1) fun v9 =>
    sd_bnd (sd_isC G 4 w0) fun _ =>
    sd_bnd (fX5_isCarriedOut G w0 w4) fun r10 =>
    sd_bnd (fX5_one G r10) fun r11 =>
    sd_bnd (sd_astI 0 v8 1 (v9 + r11)) fun _ =>
    sd_bnd (sd_ret (w4 + 1)) fun x12 =>
    k16 (w0, w1, w2, w3, x12))
set_option maxHeartbeats 4000000 in
theorem sX5_go_b16 (l : Launch) (G : sd_G) (a0 : Nat) (a1 : Int32) (ρ : Int32) (h2 : sd_H) (cT : Nat × Nat) (k8 : Nat × Int32 × Int32 × Int32 → sd_M Int32) (Hk8 : ∀ (q : Nat × Int32 × Int32 × Int32) (h : sd_H) (c : Nat × Nat), k8 q h = some (ρ, c, h2) → sd_J mX5_go ((l, G), (7, 155), [.ref a0, .int a1], (sd_oI ρ, h2), cT) 8 [(0, .ref q.1), (1, .int q.2.1), (2, .int q.2.2.1), (3, .int q.2.2.2)] [] h c) (k16 : Nat × Int32 × Int32 × Int32 × Int32 → sd_M Int32) (Hk16 : ∀ (q : Nat × Int32 × Int32 × Int32 × Int32) (h : sd_H) (c : Nat × Nat), k16 q h = some (ρ, c, h2) → sd_J mX5_go ((l, G), (7, 155), [.ref a0, .int a1], (sd_oI ρ, h2), cT) 16 [(0, .ref q.1), (1, .int q.2.1), (2, .int q.2.2.1), (3, .int q.2.2.2.1), (4, .int q.2.2.2.2)] [] h c) (w0 : Nat) (w1 : Int32) (w2 : Int32) (w3 : Int32) (w4 : Int32) (h : sd_H) (c : Nat × Nat) (hf : fX5_go_b16 G k8 k16 w0 w1 w2 w3 w4 h = some (ρ, c, h2)) : sd_J mX5_go ((l, G), (7, 155), [.ref a0, .int a1], (sd_oI ρ, h2), cT) 16 [(0, .ref w0), (1, .int w1), (2, .int w2), (3, .int w3), (4, .int w4)] [] h c := by
  unfold fX5_go_b16 at hf
  refine sj_iload 4 dX5_go_16 rfl ?_
  refine sj_aload_n 0 dX5_go_18 rfl ?_
  refine sj_getR fdX5_20_4 hf dX5_go_19 (fun v3 hf => ?_)
  refine sj_getI fdX5_167_5 hf dX5_go_22 (fun v4 hf => ?_)
  refine sj_icge 52 hf dX5_go_25 (by decide) (fun g25 hf => ?_) (fun g25 hf => ?_)
  · refine sj_aload_n 0 dX5_go_52 rfl ?_
    refine sj_getR fdX5_40_4 hf dX5_go_53 (fun v5 hf => ?_)
    refine sj_iconst (v := 0) dX5_go_56 (by decide) ?_
    refine sj_dup2 dX5_go_57 rfl rfl ?_
    refine sj_iald hf dX5_go_58 (fun v6 hf => ?_)
    refine sj_iconst (v := 1) dX5_go_59 (by decide) ?_
    refine sj_iadd dX5_go_60 ?_
    refine sj_iast hf dX5_go_61 (fun h hf => ?_)
    refine sj_iincN 3 (fun x7 => [(3, .int x7), (0, .ref w0), (1, .int w1), (2, .int w2), (4, .int w4)]) 1 hf dX5_go_62 rfl (by decide) (by decide) (fun _ => rfl) (fun x7 hf => ?_)
    refine sj_goto 8 dX5_go_65 (by decide) ?_
    exact sj_loc [1, 2, 3, 0] rfl (Hk8 (w0, w1, w2, x7) _ _ hf)
  · refine sj_aload_n 0 dX5_go_28 rfl ?_
    refine sj_getR fdX5_40_4 hf dX5_go_29 (fun v8 hf => ?_)
    refine sj_iconst (v := 1) dX5_go_32 (by decide) ?_
    refine sj_dup2 dX5_go_33 rfl rfl ?_
    refine sj_iald hf dX5_go_34 (fun v9 hf => ?_)
    refine sj_aload_n 0 dX5_go_35 rfl ?_
    refine sj_iload 4 dX5_go_36 rfl ?_
    obtain ⟨fs38, he38, hf⟩ := sd_isC_some hf
    refine sj_cI (rest := [.int v9, .int 1, .ref v8]) (fun _ _ _ e => sj_runV (n := 1) (As := [.int w4]) (rest := [.int v9, .int 1, .ref v8]) (sX5_isCarriedOut l G w0 w4 h _ _ _ e) he38 rfl rfl rfl rfl q3339 q3341 qs106 q127 q3342 (by decide +kernel) rfl rfl ⟨Nat.le_of_ble_eq_true rfl, Nat.le_of_ble_eq_true rfl⟩ rfl (Nat.le_of_ble_eq_true rfl) dX5_go_38) hf (fun r10 h c hf => ?_)
    refine sj_cI (rest := [.int v9, .int 1, .ref v8]) (fun _ _ _ e => sj_runS (n := 1) (rest := [.int v9, .int 1, .ref v8]) (sX5_one l G r10 h _ _ _ e) rfl rfl q3153 q3154 q127 q3155 (by decide +kernel) rfl ⟨Nat.le_of_ble_eq_true rfl, Nat.le_of_ble_eq_true rfl⟩ rfl (Nat.le_of_ble_eq_true rfl) dX5_go_41) hf (fun r11 h c hf => ?_)
    refine sj_iadd dX5_go_44 ?_
    refine sj_iast hf dX5_go_45 (fun h hf => ?_)
    refine sj_iincN 4 (fun x12 => [(4, .int x12), (0, .ref w0), (1, .int w1), (2, .int w2), (3, .int w3)]) 1 hf dX5_go_46 rfl (by decide) (by decide) (fun _ => rfl) (fun x12 hf => ?_)
    refine sj_goto 16 dX5_go_49 (by decide) ?_
    exact sj_loc [1, 2, 3, 4, 0] rfl (Hk16 (w0, w1, w2, w3, x12) _ _ hf)
theorem sX5_go_b16_loop (l : Launch) (G : sd_G) (a0 : Nat) (a1 : Int32) (ρ : Int32) (h2 : sd_H) (cT : Nat × Nat) (k8 : Nat × Int32 × Int32 × Int32 → sd_M Int32) (Hk8 : ∀ (q : Nat × Int32 × Int32 × Int32) (h : sd_H) (c : Nat × Nat), k8 q h = some (ρ, c, h2) → sd_J mX5_go ((l, G), (7, 155), [.ref a0, .int a1], (sd_oI ρ, h2), cT) 8 [(0, .ref q.1), (1, .int q.2.1), (2, .int q.2.2.1), (3, .int q.2.2.2)] [] h c) (n : Nat) : ∀ (q : Nat × Int32 × Int32 × Int32 × Int32) (h : sd_H) (c : Nat × Nat), sd_loop (fun k s => fX5_go_b16 G k8 k s.1 s.2.1 s.2.2.1 s.2.2.2.1 s.2.2.2.2) n q h = some (ρ, c, h2) → sd_J mX5_go ((l, G), (7, 155), [.ref a0, .int a1], (sd_oI ρ, h2), cT) 16 [(0, .ref q.1), (1, .int q.2.1), (2, .int q.2.2.1), (3, .int q.2.2.2.1), (4, .int q.2.2.2.2)] [] h c := by
  induction n with
  | zero => intro q h c hf; cases hf
  | succ n ih => intro q h c hf; exact sX5_go_b16 l G a0 a1 ρ h2 cT k8 Hk8 _ ih _ _ _ _ _ _ _ hf
def fX5_go_b8 (G : sd_G) (k8 : Nat × Int32 × Int32 × Int32 → sd_M Int32) (w0 : Nat) (w1 : Int32) (w2 : Int32) (w3 : Int32) : sd_M Int32 :=
  if w1 ≤ w3 then (
    sd_bnd (sd_isC G 4 w0) fun _ =>
    sd_bnd (fX5_foundNow G w0 1) fun r2 =>
    sd_ret (r2 - w2))
  else (
    sd_loop (fun k s => fX5_go_b16 G k8 k s.1 s.2.1 s.2.2.1 s.2.2.2.1 s.2.2.2.2) sd_FU (w0, w1, w2, w3, 0))
set_option maxHeartbeats 4000000 in
theorem sX5_go_b8 (l : Launch) (G : sd_G) (a0 : Nat) (a1 : Int32) (ρ : Int32) (h2 : sd_H) (cT : Nat × Nat) (k8 : Nat × Int32 × Int32 × Int32 → sd_M Int32) (Hk8 : ∀ (q : Nat × Int32 × Int32 × Int32) (h : sd_H) (c : Nat × Nat), k8 q h = some (ρ, c, h2) → sd_J mX5_go ((l, G), (7, 155), [.ref a0, .int a1], (sd_oI ρ, h2), cT) 8 [(0, .ref q.1), (1, .int q.2.1), (2, .int q.2.2.1), (3, .int q.2.2.2)] [] h c) (w0 : Nat) (w1 : Int32) (w2 : Int32) (w3 : Int32) (h : sd_H) (c : Nat × Nat) (hf : fX5_go_b8 G k8 w0 w1 w2 w3 h = some (ρ, c, h2)) : sd_J mX5_go ((l, G), (7, 155), [.ref a0, .int a1], (sd_oI ρ, h2), cT) 8 [(0, .ref w0), (1, .int w1), (2, .int w2), (3, .int w3)] [] h c := by
  unfold fX5_go_b8 at hf
  refine sj_iload_n 3 dX5_go_8 rfl ?_
  refine sj_iload_n 1 dX5_go_9 rfl ?_
  refine sj_icge 68 hf dX5_go_10 (by decide) (fun g10 hf => ?_) (fun g10 hf => ?_)
  · refine sj_aload_n 0 dX5_go_68 rfl ?_
    refine sj_iconst (v := 1) dX5_go_69 (by decide) ?_
    obtain ⟨fs70, he70, hf⟩ := sd_isC_some hf
    refine sj_cI (rest := []) (fun _ _ _ e => sj_runV (n := 1) (As := [.int 1]) (rest := []) (sX5_foundNow l G w0 1 h _ _ _ e) he70 rfl rfl rfl rfl q3149 q3151 qs83 q127 q3152 (by decide +kernel) rfl rfl ⟨Nat.le_of_ble_eq_true rfl, Nat.le_of_ble_eq_true rfl⟩ rfl (Nat.le_of_ble_eq_true rfl) dX5_go_70) hf (fun r2 h c hf => ?_)
    refine sj_iload_n 2 dX5_go_73 rfl ?_
    refine sj_isub dX5_go_74 ?_
    exact sj_iret (o := sd_oI) hf rfl rfl rfl dX5_go_75
  · refine sj_iconst (v := 0) dX5_go_13 (by decide) ?_
    refine sj_istore [(4, .int 0), (0, .ref w0), (1, .int w1), (2, .int w2), (3, .int w3)] dX5_go_14 (by decide) rfl ?_
    exact sj_loc [1, 2, 3, 4, 0] rfl (sX5_go_b16_loop l G a0 a1 ρ h2 cT k8 Hk8 sd_FU (w0, w1, w2, w3, 0) _ _ hf)
theorem sX5_go_b8_loop (l : Launch) (G : sd_G) (a0 : Nat) (a1 : Int32) (ρ : Int32) (h2 : sd_H) (cT : Nat × Nat) (n : Nat) : ∀ (q : Nat × Int32 × Int32 × Int32) (h : sd_H) (c : Nat × Nat), sd_loop (fun k s => fX5_go_b8 G k s.1 s.2.1 s.2.2.1 s.2.2.2) n q h = some (ρ, c, h2) → sd_J mX5_go ((l, G), (7, 155), [.ref a0, .int a1], (sd_oI ρ, h2), cT) 8 [(0, .ref q.1), (1, .int q.2.1), (2, .int q.2.2.1), (3, .int q.2.2.2)] [] h c := by
  induction n with
  | zero => intro q h c hf; cases hf
  | succ n ih => intro q h c hf; exact sX5_go_b8 l G a0 a1 ρ h2 cT _ ih _ _ _ _ _ _ hf
def fX5_go (G : sd_G) (a0 : Nat) (a1 : Int32) : sd_M Int32 :=
  sd_bnd (sd_isC G 4 a0) fun _ =>
  sd_bnd (fX5_foundNow G a0 1) fun r1 =>
  sd_loop (fun k s => fX5_go_b8 G k s.1 s.2.1 s.2.2.1 s.2.2.2) sd_FU (a0, a1, r1, 0)
set_option maxHeartbeats 4000000 in
theorem sX5_go (l : Launch) (G : sd_G) (a0 : Nat) (a1 : Int32) (h : sd_H) (ρ : Int32) (cT : Nat × Nat) (h2 : sd_H) (hf : fX5_go G a0 a1 h = some (ρ, cT, h2)) : sd_Met mX5_go ((l, G), (7, 155), [.ref a0, .int a1], (sd_oI ρ, h2), cT) h := by
  refine sd_entry (plainFor_of_name rfl) rfl (Nat.le_of_ble_eq_true rfl) ?_
  show sd_J mX5_go ((l, G), (7, 155), [.ref a0, .int a1], (sd_oI ρ, h2), cT) 0 [(0, .ref a0), (1, .int a1)] [] h cT
  unfold fX5_go at hf
  refine sj_aload_n 0 dX5_go_0 rfl ?_
  refine sj_iconst (v := 1) dX5_go_1 (by decide) ?_
  obtain ⟨fs2, he2, hf⟩ := sd_isC_some hf
  refine sj_cI (rest := []) (fun _ _ _ e => sj_runV (n := 1) (As := [.int 1]) (rest := []) (sX5_foundNow l G a0 1 h _ _ _ e) he2 rfl rfl rfl rfl q3149 q3151 qs83 q127 q3152 (by decide +kernel) rfl rfl ⟨Nat.le_of_ble_eq_true rfl, Nat.le_of_ble_eq_true rfl⟩ rfl (Nat.le_of_ble_eq_true rfl) dX5_go_2) hf (fun r1 h c hf => ?_)
  refine sj_istore_n [(2, .int r1), (0, .ref a0), (1, .int a1)] dX5_go_5 (by decide) rfl ?_
  refine sj_iconst (v := 0) dX5_go_6 (by decide) ?_
  refine sj_istore_n [(3, .int 0), (2, .int r1), (0, .ref a0), (1, .int a1)] dX5_go_7 (by decide) rfl ?_
  exact sj_loc [2, 3, 1, 0] rfl (sX5_go_b8_loop l G a0 a1 ρ h2 cT sd_FU (a0, a1, r1, 0) _ _ hf)
/-! SofaDigModel.passDays(I)I -/
abbrev cX5_passDays : ByteArray := prog_46_method_118_code
def yX5_passDays : MethodName := ⟨RX5, "passDays", "(I)I"⟩
def dkwX5_passDays_1 : List UInt8 := [4, 182, 1, 139, 172]
abbrev dktX5_passDays_1 : List UInt8 := dkwX5_passDays_1 ++ []
def dkwX5_passDays_0 : List UInt8 := [42, 3, 181, 0, 58, 27, 4, 16, 30, 184, 0, 61, 153, 0, 11, 42, 27, 182, 1, 173, 167, 0, 8, 42]
abbrev dktX5_passDays_0 : List UInt8 := dkwX5_passDays_0 ++ dktX5_passDays_1
theorem dksX5_passDays_0 : cX5_passDays.data.toList.drop 0 = dktX5_passDays_0 := by decide +kernel
theorem dksX5_passDays_1 : cX5_passDays.data.toList.drop 24 = dktX5_passDays_1 := dk_seg dksX5_passDays_0 24 rfl rfl
theorem dX5_passDays_0 : decode cX5_passDays 0 = .ok (.aload_n 0, 1) := dk_42 (dk_at dksX5_passDays_0 0 rfl rfl)
theorem dX5_passDays_1 : decode cX5_passDays 1 = .ok (.iconst 0, 1) := dk_3 (dk_at dksX5_passDays_0 1 rfl rfl)
theorem dX5_passDays_2 : decode cX5_passDays 2 = .ok (.putfield 58, 3) := dk_181 0 58 (dk_at dksX5_passDays_0 2 rfl rfl)
theorem dX5_passDays_5 : decode cX5_passDays 5 = .ok (.iload_n 1, 1) := dk_27 (dk_at dksX5_passDays_0 5 rfl rfl)
theorem dX5_passDays_6 : decode cX5_passDays 6 = .ok (.iconst 1, 1) := dk_4 (dk_at dksX5_passDays_0 6 rfl rfl)
theorem dX5_passDays_7 : decode cX5_passDays 7 = .ok (.bipush 30, 2) := dk_16 30 (dk_at dksX5_passDays_0 7 rfl rfl)
theorem dX5_passDays_9 : decode cX5_passDays 9 = .ok (.invokestatic 61, 3) := dk_184 0 61 (dk_at dksX5_passDays_0 9 rfl rfl)
theorem dX5_passDays_12 : decode cX5_passDays 12 = .ok (.ifCond .eq 11, 3) := dk_153 0 11 (dk_at dksX5_passDays_0 12 rfl rfl)
theorem dX5_passDays_15 : decode cX5_passDays 15 = .ok (.aload_n 0, 1) := dk_42 (dk_at dksX5_passDays_0 15 rfl rfl)
theorem dX5_passDays_16 : decode cX5_passDays 16 = .ok (.iload_n 1, 1) := dk_27 (dk_at dksX5_passDays_0 16 rfl rfl)
theorem dX5_passDays_17 : decode cX5_passDays 17 = .ok (.invokevirtual 429, 3) := dk_182 1 173 (dk_at dksX5_passDays_0 17 rfl rfl)
theorem dX5_passDays_20 : decode cX5_passDays 20 = .ok (.goto 8, 3) := dk_167 0 8 (dk_at dksX5_passDays_0 20 rfl rfl)
theorem dX5_passDays_23 : decode cX5_passDays 23 = .ok (.aload_n 0, 1) := dk_42 (dk_at dksX5_passDays_0 23 rfl rfl)
theorem dX5_passDays_24 : decode cX5_passDays 24 = .ok (.iconst 1, 1) := dk_4 (dk_at dksX5_passDays_1 0 rfl rfl)
theorem dX5_passDays_25 : decode cX5_passDays 25 = .ok (.invokevirtual 395, 3) := dk_182 1 139 (dk_at dksX5_passDays_1 1 rfl rfl)
theorem dX5_passDays_28 : decode cX5_passDays 28 = .ok (.ireturn, 1) := dk_172 (dk_at dksX5_passDays_1 4 rfl rfl)
abbrev mX5_passDays : sd_Y := (yX5_passDays, cX5_passDays, 2, some (.int), none)
def fX5_passDays (G : sd_G) (a0 : Nat) (a1 : Int32) : sd_M Int32 :=
  sd_bnd (sd_put 4 0 .int a0 (.int 0)) fun _ =>
  sd_bnd (fX5_isIn G a1 1 30) fun r1 =>
  if r1 = 0 then (
    sd_bnd (sd_isC G 4 a0) fun _ =>
    sd_bnd (fX5_no G a0 1) fun r2 =>
    sd_ret r2)
  else (
    sd_bnd (sd_isC G 4 a0) fun _ =>
    sd_bnd (fX5_go G a0 a1) fun r3 =>
    sd_ret r3)
set_option maxHeartbeats 4000000 in
theorem sX5_passDays (l : Launch) (G : sd_G) (a0 : Nat) (a1 : Int32) (h : sd_H) (ρ : Int32) (cT : Nat × Nat) (h2 : sd_H) (hf : fX5_passDays G a0 a1 h = some (ρ, cT, h2)) : sd_Met mX5_passDays ((l, G), (8, 179), [.ref a0, .int a1], (sd_oI ρ, h2), cT) h := by
  refine sd_entry (plainFor_of_name rfl) rfl (Nat.le_of_ble_eq_true rfl) ?_
  show sd_J mX5_passDays ((l, G), (8, 179), [.ref a0, .int a1], (sd_oI ρ, h2), cT) 0 [(0, .ref a0), (1, .int a1)] [] h cT
  unfold fX5_passDays at hf
  refine sj_aload_n 0 dX5_passDays_0 rfl ?_
  refine sj_iconst (v := 0) dX5_passDays_1 (by decide) ?_
  refine sj_put (fpX5_58_4 _ _) hf dX5_passDays_2 (fun h hf => ?_)
  refine sj_iload_n 1 dX5_passDays_5 rfl ?_
  refine sj_iconst (v := 1) dX5_passDays_6 (by decide) ?_
  refine sj_bipush (v := 30) dX5_passDays_7 (by decide) ?_
  refine sj_cI (rest := []) (fun _ _ _ e => sj_runS (n := 3) (rest := []) (sX5_isIn l G a1 1 30 h _ _ _ e) rfl rfl q2921 q2922 q127 q2923 (by decide +kernel) rfl ⟨Nat.le_of_ble_eq_true rfl, Nat.le_of_ble_eq_true rfl⟩ rfl (Nat.le_of_ble_eq_true rfl) dX5_passDays_9) hf (fun r1 h c hf => ?_)
  refine sj_ifeq 23 hf dX5_passDays_12 (by decide) (fun g12 hf => ?_) (fun g12 hf => ?_)
  · refine sj_aload_n 0 dX5_passDays_23 rfl ?_
    refine sj_iconst (v := 1) dX5_passDays_24 (by decide) ?_
    obtain ⟨fs25, he25, hf⟩ := sd_isC_some hf
    refine sj_cI (rest := []) (fun _ _ _ e => sj_runV (n := 1) (As := [.int 1]) (rest := []) (sX5_no l G a0 1 h _ _ _ e) he25 rfl rfl rfl rfl q2913 q2915 qs42 q127 q2916 (by decide +kernel) rfl rfl ⟨Nat.le_of_ble_eq_true rfl, Nat.le_of_ble_eq_true rfl⟩ rfl (Nat.le_of_ble_eq_true rfl) dX5_passDays_25) hf (fun r2 h c hf => ?_)
    exact sj_iret (o := sd_oI) hf rfl rfl rfl dX5_passDays_28
  · refine sj_aload_n 0 dX5_passDays_15 rfl ?_
    refine sj_iload_n 1 dX5_passDays_16 rfl ?_
    obtain ⟨fs17, he17, hf⟩ := sd_isC_some hf
    refine sj_cI (rest := []) (fun _ _ _ e => sj_runV (n := 1) (As := [.int a1]) (rest := []) (sX5_go l G a0 a1 h _ _ _ e) he17 rfl rfl rfl rfl q3335 q3337 qs105 q127 q3338 (by decide +kernel) rfl rfl ⟨Nat.le_of_ble_eq_true rfl, Nat.le_of_ble_eq_true rfl⟩ rfl (Nat.le_of_ble_eq_true rfl) dX5_passDays_17) hf (fun r3 h c hf => ?_)
    refine sj_goto 28 dX5_passDays_20 (by decide) ?_
    exact sj_iret (o := sd_oI) hf rfl rfl rfl dX5_passDays_28
/-! SofaDigModel.keep()V -/
abbrev cX5_keep : ByteArray := prog_46_method_12_code
def yX5_keep : MethodName := ⟨RX5, "keep", "()V"⟩
def dkwX5_keep_0 : List UInt8 := [42, 180, 0, 40, 3, 42, 180, 0, 43, 3, 17, 0, 197, 184, 0, 68, 177]
abbrev dktX5_keep_0 : List UInt8 := dkwX5_keep_0 ++ []
theorem dksX5_keep_0 : cX5_keep.data.toList.drop 0 = dktX5_keep_0 := by decide +kernel
theorem dX5_keep_0 : decode cX5_keep 0 = .ok (.aload_n 0, 1) := dk_42 (dk_at dksX5_keep_0 0 rfl rfl)
theorem dX5_keep_1 : decode cX5_keep 1 = .ok (.getfield 40, 3) := dk_180 0 40 (dk_at dksX5_keep_0 1 rfl rfl)
theorem dX5_keep_4 : decode cX5_keep 4 = .ok (.iconst 0, 1) := dk_3 (dk_at dksX5_keep_0 4 rfl rfl)
theorem dX5_keep_5 : decode cX5_keep 5 = .ok (.aload_n 0, 1) := dk_42 (dk_at dksX5_keep_0 5 rfl rfl)
theorem dX5_keep_6 : decode cX5_keep 6 = .ok (.getfield 43, 3) := dk_180 0 43 (dk_at dksX5_keep_0 6 rfl rfl)
theorem dX5_keep_9 : decode cX5_keep 9 = .ok (.iconst 0, 1) := dk_3 (dk_at dksX5_keep_0 9 rfl rfl)
theorem dX5_keep_10 : decode cX5_keep 10 = .ok (.sipush 197, 3) := dk_17 0 197 (dk_at dksX5_keep_0 10 rfl rfl)
theorem dX5_keep_13 : decode cX5_keep 13 = .ok (.invokestatic 68, 3) := dk_184 0 68 (dk_at dksX5_keep_0 13 rfl rfl)
theorem dX5_keep_16 : decode cX5_keep 16 = .ok (.return_, 1) := dk_177 (dk_at dksX5_keep_0 16 rfl rfl)
theorem fdX5_43_4 : sd_Fd "SofaDigModel" 43 4 16 := ⟨(RX5, TX5, 18), "SofaDigModel", rfl, by decide, rfl, in_X5, Or.inl rfl, Or.inl q2866⟩
abbrev mX5_keep : sd_Y := (yX5_keep, cX5_keep, 1, none, none)
def fX5_keep (G : sd_G) (a0 : Nat) : sd_M Unit :=
  sd_bnd (sd_getR G 4 15 a0) fun v1 =>
  sd_bnd (sd_getR G 4 16 a0) fun v2 =>
  sd_bnd (sd_cpI G 0 v1 0 v2 0 197) fun _ =>
  sd_ret ()
set_option maxHeartbeats 4000000 in
theorem sX5_keep (l : Launch) (G : sd_G) (a0 : Nat) (h : sd_H) (ρ : Unit) (cT : Nat × Nat) (h2 : sd_H) (hf : fX5_keep G a0 h = some (ρ, cT, h2)) : sd_Met mX5_keep ((l, G), (1, 18), [.ref a0], (sd_oV ρ, h2), cT) h := by
  refine sd_entry (plainFor_of_name rfl) rfl (Nat.le_of_ble_eq_true rfl) ?_
  show sd_J mX5_keep ((l, G), (1, 18), [.ref a0], (sd_oV ρ, h2), cT) 0 [(0, .ref a0)] [] h cT
  unfold fX5_keep at hf
  refine sj_aload_n 0 dX5_keep_0 rfl ?_
  refine sj_getR fdX5_40_4 hf dX5_keep_1 (fun v1 hf => ?_)
  refine sj_iconst (v := 0) dX5_keep_4 (by decide) ?_
  refine sj_aload_n 0 dX5_keep_5 rfl ?_
  refine sj_getR fdX5_43_4 hf dX5_keep_6 (fun v2 hf => ?_)
  refine sj_iconst (v := 0) dX5_keep_9 (by decide) ?_
  refine sj_sipush (v := 197) dX5_keep_10 (by decide) ?_
  refine sj_cpI q3379 (Nat.le_of_ble_eq_true rfl) (Nat.le_of_ble_eq_true rfl) hf dX5_keep_13 (fun h hf => ?_)
  exact sj_vret (o := sd_oV) hf rfl rfl rfl dX5_keep_16
/-! SofaDigModel.bringBack()V -/
abbrev cX5_bringBack : ByteArray := prog_46_method_13_code
def yX5_bringBack : MethodName := ⟨RX5, "bringBack", "()V"⟩
def dkwX5_bringBack_0 : List UInt8 := [42, 180, 0, 43, 3, 42, 180, 0, 40, 3, 17, 0, 197, 184, 0, 68, 177]
abbrev dktX5_bringBack_0 : List UInt8 := dkwX5_bringBack_0 ++ []
theorem dksX5_bringBack_0 : cX5_bringBack.data.toList.drop 0 = dktX5_bringBack_0 := by decide +kernel
theorem dX5_bringBack_0 : decode cX5_bringBack 0 = .ok (.aload_n 0, 1) := dk_42 (dk_at dksX5_bringBack_0 0 rfl rfl)
theorem dX5_bringBack_1 : decode cX5_bringBack 1 = .ok (.getfield 43, 3) := dk_180 0 43 (dk_at dksX5_bringBack_0 1 rfl rfl)
theorem dX5_bringBack_4 : decode cX5_bringBack 4 = .ok (.iconst 0, 1) := dk_3 (dk_at dksX5_bringBack_0 4 rfl rfl)
theorem dX5_bringBack_5 : decode cX5_bringBack 5 = .ok (.aload_n 0, 1) := dk_42 (dk_at dksX5_bringBack_0 5 rfl rfl)
theorem dX5_bringBack_6 : decode cX5_bringBack 6 = .ok (.getfield 40, 3) := dk_180 0 40 (dk_at dksX5_bringBack_0 6 rfl rfl)
theorem dX5_bringBack_9 : decode cX5_bringBack 9 = .ok (.iconst 0, 1) := dk_3 (dk_at dksX5_bringBack_0 9 rfl rfl)
theorem dX5_bringBack_10 : decode cX5_bringBack 10 = .ok (.sipush 197, 3) := dk_17 0 197 (dk_at dksX5_bringBack_0 10 rfl rfl)
theorem dX5_bringBack_13 : decode cX5_bringBack 13 = .ok (.invokestatic 68, 3) := dk_184 0 68 (dk_at dksX5_bringBack_0 13 rfl rfl)
theorem dX5_bringBack_16 : decode cX5_bringBack 16 = .ok (.return_, 1) := dk_177 (dk_at dksX5_bringBack_0 16 rfl rfl)
abbrev mX5_bringBack : sd_Y := (yX5_bringBack, cX5_bringBack, 1, none, none)
def fX5_bringBack (G : sd_G) (a0 : Nat) : sd_M Unit :=
  sd_bnd (sd_getR G 4 16 a0) fun v1 =>
  sd_bnd (sd_getR G 4 15 a0) fun v2 =>
  sd_bnd (sd_cpI G 0 v1 0 v2 0 197) fun _ =>
  sd_ret ()
set_option maxHeartbeats 4000000 in
theorem sX5_bringBack (l : Launch) (G : sd_G) (a0 : Nat) (h : sd_H) (ρ : Unit) (cT : Nat × Nat) (h2 : sd_H) (hf : fX5_bringBack G a0 h = some (ρ, cT, h2)) : sd_Met mX5_bringBack ((l, G), (1, 18), [.ref a0], (sd_oV ρ, h2), cT) h := by
  refine sd_entry (plainFor_of_name rfl) rfl (Nat.le_of_ble_eq_true rfl) ?_
  show sd_J mX5_bringBack ((l, G), (1, 18), [.ref a0], (sd_oV ρ, h2), cT) 0 [(0, .ref a0)] [] h cT
  unfold fX5_bringBack at hf
  refine sj_aload_n 0 dX5_bringBack_0 rfl ?_
  refine sj_getR fdX5_43_4 hf dX5_bringBack_1 (fun v1 hf => ?_)
  refine sj_iconst (v := 0) dX5_bringBack_4 (by decide) ?_
  refine sj_aload_n 0 dX5_bringBack_5 rfl ?_
  refine sj_getR fdX5_40_4 hf dX5_bringBack_6 (fun v2 hf => ?_)
  refine sj_iconst (v := 0) dX5_bringBack_9 (by decide) ?_
  refine sj_sipush (v := 197) dX5_bringBack_10 (by decide) ?_
  refine sj_cpI q3379 (Nat.le_of_ble_eq_true rfl) (Nat.le_of_ble_eq_true rfl) hf dX5_bringBack_13 (fun h hf => ?_)
  exact sj_vret (o := sd_oV) hf rfl rfl rfl dX5_bringBack_16
/-! SofaDigModel.foundAfter(I)I -/
abbrev cX5_foundAfter : ByteArray := prog_46_method_119_code
def yX5_foundAfter : MethodName := ⟨RX5, "foundAfter", "(I)I"⟩
def dkwX5_foundAfter_1 : List UInt8 := [182, 1, 176, 42, 27, 182, 1, 173, 87, 42, 4, 182, 0, 164, 61, 42, 182, 1, 179, 28, 172]
abbrev dktX5_foundAfter_1 : List UInt8 := dkwX5_foundAfter_1 ++ []
def dkwX5_foundAfter_0 : List UInt8 := [42, 3, 181, 0, 58, 27, 4, 16, 30, 184, 0, 61, 154, 0, 9, 42, 4, 182, 1, 139, 172, 42]
abbrev dktX5_foundAfter_0 : List UInt8 := dkwX5_foundAfter_0 ++ dktX5_foundAfter_1
theorem dksX5_foundAfter_0 : cX5_foundAfter.data.toList.drop 0 = dktX5_foundAfter_0 := by decide +kernel
theorem dksX5_foundAfter_1 : cX5_foundAfter.data.toList.drop 22 = dktX5_foundAfter_1 := dk_seg dksX5_foundAfter_0 22 rfl rfl
theorem dX5_foundAfter_0 : decode cX5_foundAfter 0 = .ok (.aload_n 0, 1) := dk_42 (dk_at dksX5_foundAfter_0 0 rfl rfl)
theorem dX5_foundAfter_1 : decode cX5_foundAfter 1 = .ok (.iconst 0, 1) := dk_3 (dk_at dksX5_foundAfter_0 1 rfl rfl)
theorem dX5_foundAfter_2 : decode cX5_foundAfter 2 = .ok (.putfield 58, 3) := dk_181 0 58 (dk_at dksX5_foundAfter_0 2 rfl rfl)
theorem dX5_foundAfter_5 : decode cX5_foundAfter 5 = .ok (.iload_n 1, 1) := dk_27 (dk_at dksX5_foundAfter_0 5 rfl rfl)
theorem dX5_foundAfter_6 : decode cX5_foundAfter 6 = .ok (.iconst 1, 1) := dk_4 (dk_at dksX5_foundAfter_0 6 rfl rfl)
theorem dX5_foundAfter_7 : decode cX5_foundAfter 7 = .ok (.bipush 30, 2) := dk_16 30 (dk_at dksX5_foundAfter_0 7 rfl rfl)
theorem dX5_foundAfter_9 : decode cX5_foundAfter 9 = .ok (.invokestatic 61, 3) := dk_184 0 61 (dk_at dksX5_foundAfter_0 9 rfl rfl)
theorem dX5_foundAfter_12 : decode cX5_foundAfter 12 = .ok (.ifCond .ne 9, 3) := dk_154 0 9 (dk_at dksX5_foundAfter_0 12 rfl rfl)
theorem dX5_foundAfter_15 : decode cX5_foundAfter 15 = .ok (.aload_n 0, 1) := dk_42 (dk_at dksX5_foundAfter_0 15 rfl rfl)
theorem dX5_foundAfter_16 : decode cX5_foundAfter 16 = .ok (.iconst 1, 1) := dk_4 (dk_at dksX5_foundAfter_0 16 rfl rfl)
theorem dX5_foundAfter_17 : decode cX5_foundAfter 17 = .ok (.invokevirtual 395, 3) := dk_182 1 139 (dk_at dksX5_foundAfter_0 17 rfl rfl)
theorem dX5_foundAfter_20 : decode cX5_foundAfter 20 = .ok (.ireturn, 1) := dk_172 (dk_at dksX5_foundAfter_0 20 rfl rfl)
theorem dX5_foundAfter_21 : decode cX5_foundAfter 21 = .ok (.aload_n 0, 1) := dk_42 (dk_at dksX5_foundAfter_0 21 rfl rfl)
theorem dX5_foundAfter_22 : decode cX5_foundAfter 22 = .ok (.invokevirtual 432, 3) := dk_182 1 176 (dk_at dksX5_foundAfter_1 0 rfl rfl)
theorem dX5_foundAfter_25 : decode cX5_foundAfter 25 = .ok (.aload_n 0, 1) := dk_42 (dk_at dksX5_foundAfter_1 3 rfl rfl)
theorem dX5_foundAfter_26 : decode cX5_foundAfter 26 = .ok (.iload_n 1, 1) := dk_27 (dk_at dksX5_foundAfter_1 4 rfl rfl)
theorem dX5_foundAfter_27 : decode cX5_foundAfter 27 = .ok (.invokevirtual 429, 3) := dk_182 1 173 (dk_at dksX5_foundAfter_1 5 rfl rfl)
theorem dX5_foundAfter_30 : decode cX5_foundAfter 30 = .ok (.pop, 1) := dk_87 (dk_at dksX5_foundAfter_1 8 rfl rfl)
theorem dX5_foundAfter_31 : decode cX5_foundAfter 31 = .ok (.aload_n 0, 1) := dk_42 (dk_at dksX5_foundAfter_1 9 rfl rfl)
theorem dX5_foundAfter_32 : decode cX5_foundAfter 32 = .ok (.iconst 1, 1) := dk_4 (dk_at dksX5_foundAfter_1 10 rfl rfl)
theorem dX5_foundAfter_33 : decode cX5_foundAfter 33 = .ok (.invokevirtual 164, 3) := dk_182 0 164 (dk_at dksX5_foundAfter_1 11 rfl rfl)
theorem dX5_foundAfter_36 : decode cX5_foundAfter 36 = .ok (.istore_n 2, 1) := dk_61 (dk_at dksX5_foundAfter_1 14 rfl rfl)
theorem dX5_foundAfter_37 : decode cX5_foundAfter 37 = .ok (.aload_n 0, 1) := dk_42 (dk_at dksX5_foundAfter_1 15 rfl rfl)
theorem dX5_foundAfter_38 : decode cX5_foundAfter 38 = .ok (.invokevirtual 435, 3) := dk_182 1 179 (dk_at dksX5_foundAfter_1 16 rfl rfl)
theorem dX5_foundAfter_41 : decode cX5_foundAfter 41 = .ok (.iload_n 2, 1) := dk_28 (dk_at dksX5_foundAfter_1 19 rfl rfl)
theorem dX5_foundAfter_42 : decode cX5_foundAfter 42 = .ok (.ireturn, 1) := dk_172 (dk_at dksX5_foundAfter_1 20 rfl rfl)
abbrev mX5_foundAfter : sd_Y := (yX5_foundAfter, cX5_foundAfter, 3, some (.int), none)
def fX5_foundAfter (G : sd_G) (a0 : Nat) (a1 : Int32) : sd_M Int32 :=
  sd_bnd (sd_put 4 0 .int a0 (.int 0)) fun _ =>
  sd_bnd (fX5_isIn G a1 1 30) fun r1 =>
  if r1 = 0 then (
    sd_bnd (sd_isC G 4 a0) fun _ =>
    sd_bnd (fX5_no G a0 1) fun r4 =>
    sd_ret r4)
  else (
    sd_bnd (sd_isC G 4 a0) fun _ =>
    sd_bnd (fX5_keep G a0) fun _ =>
    sd_bnd (sd_isC G 4 a0) fun _ =>
    sd_bnd (fX5_go G a0 a1) fun r2 =>
    sd_bnd (sd_isC G 4 a0) fun _ =>
    sd_bnd (fX5_foundNow G a0 1) fun r3 =>
    sd_bnd (sd_isC G 4 a0) fun _ =>
    sd_bnd (fX5_bringBack G a0) fun _ =>
    sd_ret r3)
set_option maxHeartbeats 4000000 in
theorem sX5_foundAfter (l : Launch) (G : sd_G) (a0 : Nat) (a1 : Int32) (h : sd_H) (ρ : Int32) (cT : Nat × Nat) (h2 : sd_H) (hf : fX5_foundAfter G a0 a1 h = some (ρ, cT, h2)) : sd_Met mX5_foundAfter ((l, G), (8, 179), [.ref a0, .int a1], (sd_oI ρ, h2), cT) h := by
  refine sd_entry (plainFor_of_name rfl) rfl (Nat.le_of_ble_eq_true rfl) ?_
  show sd_J mX5_foundAfter ((l, G), (8, 179), [.ref a0, .int a1], (sd_oI ρ, h2), cT) 0 [(0, .ref a0), (1, .int a1)] [] h cT
  unfold fX5_foundAfter at hf
  refine sj_aload_n 0 dX5_foundAfter_0 rfl ?_
  refine sj_iconst (v := 0) dX5_foundAfter_1 (by decide) ?_
  refine sj_put (fpX5_58_4 _ _) hf dX5_foundAfter_2 (fun h hf => ?_)
  refine sj_iload_n 1 dX5_foundAfter_5 rfl ?_
  refine sj_iconst (v := 1) dX5_foundAfter_6 (by decide) ?_
  refine sj_bipush (v := 30) dX5_foundAfter_7 (by decide) ?_
  refine sj_cI (rest := []) (fun _ _ _ e => sj_runS (n := 3) (rest := []) (sX5_isIn l G a1 1 30 h _ _ _ e) rfl rfl q2921 q2922 q127 q2923 (by decide +kernel) rfl ⟨Nat.le_of_ble_eq_true rfl, Nat.le_of_ble_eq_true rfl⟩ rfl (Nat.le_of_ble_eq_true rfl) dX5_foundAfter_9) hf (fun r1 h c hf => ?_)
  refine sj_ifne 21 hf dX5_foundAfter_12 (by decide) (fun g12 hf => ?_) (fun g12 hf => ?_)
  · refine sj_aload_n 0 dX5_foundAfter_21 rfl ?_
    obtain ⟨fs22, he22, hf⟩ := sd_isC_some hf
    refine sj_cV (rest := []) (fun _ _ _ e => sj_runV (n := 0) (As := []) (rest := []) (sX5_keep l G a0 h _ _ _ e) he22 rfl rfl rfl rfl q3375 q3377 qs111 q127 q3378 (by decide +kernel) rfl rfl ⟨Nat.le_of_ble_eq_true rfl, Nat.le_of_ble_eq_true rfl⟩ rfl (Nat.le_of_ble_eq_true rfl) dX5_foundAfter_22) hf (fun h c hf => ?_)
    refine sj_aload_n 0 dX5_foundAfter_25 rfl ?_
    refine sj_iload_n 1 dX5_foundAfter_26 rfl ?_
    obtain ⟨fs27, he27, hf⟩ := sd_isC_some hf
    refine sj_cI (rest := []) (fun _ _ _ e => sj_runV (n := 1) (As := [.int a1]) (rest := []) (sX5_go l G a0 a1 h _ _ _ e) he27 rfl rfl rfl rfl q3335 q3337 qs105 q127 q3338 (by decide +kernel) rfl rfl ⟨Nat.le_of_ble_eq_true rfl, Nat.le_of_ble_eq_true rfl⟩ rfl (Nat.le_of_ble_eq_true rfl) dX5_foundAfter_27) hf (fun r2 h c hf => ?_)
    refine sj_pop dX5_foundAfter_30 rfl ?_
    refine sj_aload_n 0 dX5_foundAfter_31 rfl ?_
    refine sj_iconst (v := 1) dX5_foundAfter_32 (by decide) ?_
    obtain ⟨fs33, he33, hf⟩ := sd_isC_some hf
    refine sj_cI (rest := []) (fun _ _ _ e => sj_runV (n := 1) (As := [.int 1]) (rest := []) (sX5_foundNow l G a0 1 h _ _ _ e) he33 rfl rfl rfl rfl q3149 q3151 qs83 q127 q3152 (by decide +kernel) rfl rfl ⟨Nat.le_of_ble_eq_true rfl, Nat.le_of_ble_eq_true rfl⟩ rfl (Nat.le_of_ble_eq_true rfl) dX5_foundAfter_33) hf (fun r3 h c hf => ?_)
    refine sj_istore_n [(2, .int r3), (0, .ref a0), (1, .int a1)] dX5_foundAfter_36 (by decide) rfl ?_
    refine sj_aload_n 1 dX5_foundAfter_37 rfl ?_
    obtain ⟨fs38, he38, hf⟩ := sd_isC_some hf
    refine sj_cV (rest := []) (fun _ _ _ e => sj_runV (n := 0) (As := []) (rest := []) (sX5_bringBack l G a0 h _ _ _ e) he38 rfl rfl rfl rfl q3380 q3382 qs112 q127 q3383 (by decide +kernel) rfl rfl ⟨Nat.le_of_ble_eq_true rfl, Nat.le_of_ble_eq_true rfl⟩ rfl (Nat.le_of_ble_eq_true rfl) dX5_foundAfter_38) hf (fun h c hf => ?_)
    refine sj_iload_n 0 dX5_foundAfter_41 rfl ?_
    exact sj_iret (o := sd_oI) hf rfl rfl rfl dX5_foundAfter_42
  · refine sj_aload_n 0 dX5_foundAfter_15 rfl ?_
    refine sj_iconst (v := 1) dX5_foundAfter_16 (by decide) ?_
    obtain ⟨fs17, he17, hf⟩ := sd_isC_some hf
    refine sj_cI (rest := []) (fun _ _ _ e => sj_runV (n := 1) (As := [.int 1]) (rest := []) (sX5_no l G a0 1 h _ _ _ e) he17 rfl rfl rfl rfl q2913 q2915 qs42 q127 q2916 (by decide +kernel) rfl rfl ⟨Nat.le_of_ble_eq_true rfl, Nat.le_of_ble_eq_true rfl⟩ rfl (Nat.le_of_ble_eq_true rfl) dX5_foundAfter_17) hf (fun r4 h c hf => ?_)
    exact sj_iret (o := sd_oI) hf rfl rfl rfl dX5_foundAfter_20
/-! SofaDigModel.daysUntilFound(I)I -/
abbrev cX5_daysUntilFound : ByteArray := prog_46_method_120_code
def yX5_daysUntilFound : MethodName := ⟨RX5, "daysUntilFound", "(I)I"⟩
def dkwX5_daysUntilFound_3 : List UInt8 := [28, 172]
abbrev dktX5_daysUntilFound_3 : List UInt8 := dkwX5_daysUntilFound_3 ++ []
def dkwX5_daysUntilFound_2 : List UInt8 := [182, 1, 173, 87, 132, 2, 1, 167, 255, 228, 42, 182, 1, 179, 28, 16, 30, 164, 0, 7, 2, 167, 0, 4]
abbrev dktX5_daysUntilFound_2 : List UInt8 := dkwX5_daysUntilFound_2 ++ dktX5_daysUntilFound_3
def dkwX5_daysUntilFound_1 : List UInt8 := [61, 28, 16, 30, 163, 0, 28, 42, 180, 0, 40, 17, 0, 173, 27, 96, 46, 154, 0, 15, 42, 4]
abbrev dktX5_daysUntilFound_1 : List UInt8 := dkwX5_daysUntilFound_1 ++ dktX5_daysUntilFound_2
def dkwX5_daysUntilFound_0 : List UInt8 := [42, 3, 181, 0, 58, 42, 27, 182, 0, 176, 154, 0, 9, 42, 4, 182, 1, 139, 172, 42, 182, 1, 176, 3]
abbrev dktX5_daysUntilFound_0 : List UInt8 := dkwX5_daysUntilFound_0 ++ dktX5_daysUntilFound_1
theorem dksX5_daysUntilFound_0 : cX5_daysUntilFound.data.toList.drop 0 = dktX5_daysUntilFound_0 := by decide +kernel
theorem dksX5_daysUntilFound_1 : cX5_daysUntilFound.data.toList.drop 24 = dktX5_daysUntilFound_1 := dk_seg dksX5_daysUntilFound_0 24 rfl rfl
theorem dksX5_daysUntilFound_2 : cX5_daysUntilFound.data.toList.drop 46 = dktX5_daysUntilFound_2 := dk_seg dksX5_daysUntilFound_1 22 rfl rfl
theorem dksX5_daysUntilFound_3 : cX5_daysUntilFound.data.toList.drop 70 = dktX5_daysUntilFound_3 := dk_seg dksX5_daysUntilFound_2 24 rfl rfl
theorem dX5_daysUntilFound_0 : decode cX5_daysUntilFound 0 = .ok (.aload_n 0, 1) := dk_42 (dk_at dksX5_daysUntilFound_0 0 rfl rfl)
theorem dX5_daysUntilFound_1 : decode cX5_daysUntilFound 1 = .ok (.iconst 0, 1) := dk_3 (dk_at dksX5_daysUntilFound_0 1 rfl rfl)
theorem dX5_daysUntilFound_2 : decode cX5_daysUntilFound 2 = .ok (.putfield 58, 3) := dk_181 0 58 (dk_at dksX5_daysUntilFound_0 2 rfl rfl)
theorem dX5_daysUntilFound_5 : decode cX5_daysUntilFound 5 = .ok (.aload_n 0, 1) := dk_42 (dk_at dksX5_daysUntilFound_0 5 rfl rfl)
theorem dX5_daysUntilFound_6 : decode cX5_daysUntilFound 6 = .ok (.iload_n 1, 1) := dk_27 (dk_at dksX5_daysUntilFound_0 6 rfl rfl)
theorem dX5_daysUntilFound_7 : decode cX5_daysUntilFound 7 = .ok (.invokevirtual 176, 3) := dk_182 0 176 (dk_at dksX5_daysUntilFound_0 7 rfl rfl)
theorem dX5_daysUntilFound_10 : decode cX5_daysUntilFound 10 = .ok (.ifCond .ne 9, 3) := dk_154 0 9 (dk_at dksX5_daysUntilFound_0 10 rfl rfl)
theorem dX5_daysUntilFound_13 : decode cX5_daysUntilFound 13 = .ok (.aload_n 0, 1) := dk_42 (dk_at dksX5_daysUntilFound_0 13 rfl rfl)
theorem dX5_daysUntilFound_14 : decode cX5_daysUntilFound 14 = .ok (.iconst 1, 1) := dk_4 (dk_at dksX5_daysUntilFound_0 14 rfl rfl)
theorem dX5_daysUntilFound_15 : decode cX5_daysUntilFound 15 = .ok (.invokevirtual 395, 3) := dk_182 1 139 (dk_at dksX5_daysUntilFound_0 15 rfl rfl)
theorem dX5_daysUntilFound_18 : decode cX5_daysUntilFound 18 = .ok (.ireturn, 1) := dk_172 (dk_at dksX5_daysUntilFound_0 18 rfl rfl)
theorem dX5_daysUntilFound_19 : decode cX5_daysUntilFound 19 = .ok (.aload_n 0, 1) := dk_42 (dk_at dksX5_daysUntilFound_0 19 rfl rfl)
theorem dX5_daysUntilFound_20 : decode cX5_daysUntilFound 20 = .ok (.invokevirtual 432, 3) := dk_182 1 176 (dk_at dksX5_daysUntilFound_0 20 rfl rfl)
theorem dX5_daysUntilFound_23 : decode cX5_daysUntilFound 23 = .ok (.iconst 0, 1) := dk_3 (dk_at dksX5_daysUntilFound_0 23 rfl rfl)
theorem dX5_daysUntilFound_24 : decode cX5_daysUntilFound 24 = .ok (.istore_n 2, 1) := dk_61 (dk_at dksX5_daysUntilFound_1 0 rfl rfl)
theorem dX5_daysUntilFound_25 : decode cX5_daysUntilFound 25 = .ok (.iload_n 2, 1) := dk_28 (dk_at dksX5_daysUntilFound_1 1 rfl rfl)
theorem dX5_daysUntilFound_26 : decode cX5_daysUntilFound 26 = .ok (.bipush 30, 2) := dk_16 30 (dk_at dksX5_daysUntilFound_1 2 rfl rfl)
theorem dX5_daysUntilFound_28 : decode cX5_daysUntilFound 28 = .ok (.if_icmp .gt 28, 3) := dk_163 0 28 (dk_at dksX5_daysUntilFound_1 4 rfl rfl)
theorem dX5_daysUntilFound_31 : decode cX5_daysUntilFound 31 = .ok (.aload_n 0, 1) := dk_42 (dk_at dksX5_daysUntilFound_1 7 rfl rfl)
theorem dX5_daysUntilFound_32 : decode cX5_daysUntilFound 32 = .ok (.getfield 40, 3) := dk_180 0 40 (dk_at dksX5_daysUntilFound_1 8 rfl rfl)
theorem dX5_daysUntilFound_35 : decode cX5_daysUntilFound 35 = .ok (.sipush 173, 3) := dk_17 0 173 (dk_at dksX5_daysUntilFound_1 11 rfl rfl)
theorem dX5_daysUntilFound_38 : decode cX5_daysUntilFound 38 = .ok (.iload_n 1, 1) := dk_27 (dk_at dksX5_daysUntilFound_1 14 rfl rfl)
theorem dX5_daysUntilFound_39 : decode cX5_daysUntilFound 39 = .ok (.iadd, 1) := dk_96 (dk_at dksX5_daysUntilFound_1 15 rfl rfl)
theorem dX5_daysUntilFound_40 : decode cX5_daysUntilFound 40 = .ok (.iaload, 1) := dk_46 (dk_at dksX5_daysUntilFound_1 16 rfl rfl)
theorem dX5_daysUntilFound_41 : decode cX5_daysUntilFound 41 = .ok (.ifCond .ne 15, 3) := dk_154 0 15 (dk_at dksX5_daysUntilFound_1 17 rfl rfl)
theorem dX5_daysUntilFound_44 : decode cX5_daysUntilFound 44 = .ok (.aload_n 0, 1) := dk_42 (dk_at dksX5_daysUntilFound_1 20 rfl rfl)
theorem dX5_daysUntilFound_45 : decode cX5_daysUntilFound 45 = .ok (.iconst 1, 1) := dk_4 (dk_at dksX5_daysUntilFound_1 21 rfl rfl)
theorem dX5_daysUntilFound_46 : decode cX5_daysUntilFound 46 = .ok (.invokevirtual 429, 3) := dk_182 1 173 (dk_at dksX5_daysUntilFound_2 0 rfl rfl)
theorem dX5_daysUntilFound_49 : decode cX5_daysUntilFound 49 = .ok (.pop, 1) := dk_87 (dk_at dksX5_daysUntilFound_2 3 rfl rfl)
theorem dX5_daysUntilFound_50 : decode cX5_daysUntilFound 50 = .ok (.iinc 2 1, 3) := dk_132 2 1 (dk_at dksX5_daysUntilFound_2 4 rfl rfl)
theorem dX5_daysUntilFound_53 : decode cX5_daysUntilFound 53 = .ok (.goto (-28), 3) := dk_167 255 228 (dk_at dksX5_daysUntilFound_2 7 rfl rfl)
theorem dX5_daysUntilFound_56 : decode cX5_daysUntilFound 56 = .ok (.aload_n 0, 1) := dk_42 (dk_at dksX5_daysUntilFound_2 10 rfl rfl)
theorem dX5_daysUntilFound_57 : decode cX5_daysUntilFound 57 = .ok (.invokevirtual 435, 3) := dk_182 1 179 (dk_at dksX5_daysUntilFound_2 11 rfl rfl)
theorem dX5_daysUntilFound_60 : decode cX5_daysUntilFound 60 = .ok (.iload_n 2, 1) := dk_28 (dk_at dksX5_daysUntilFound_2 14 rfl rfl)
theorem dX5_daysUntilFound_61 : decode cX5_daysUntilFound 61 = .ok (.bipush 30, 2) := dk_16 30 (dk_at dksX5_daysUntilFound_2 15 rfl rfl)
theorem dX5_daysUntilFound_63 : decode cX5_daysUntilFound 63 = .ok (.if_icmp .le 7, 3) := dk_164 0 7 (dk_at dksX5_daysUntilFound_2 17 rfl rfl)
theorem dX5_daysUntilFound_66 : decode cX5_daysUntilFound 66 = .ok (.iconst (-1), 1) := dk_2 (dk_at dksX5_daysUntilFound_2 20 rfl rfl)
theorem dX5_daysUntilFound_67 : decode cX5_daysUntilFound 67 = .ok (.goto 4, 3) := dk_167 0 4 (dk_at dksX5_daysUntilFound_2 21 rfl rfl)
theorem dX5_daysUntilFound_70 : decode cX5_daysUntilFound 70 = .ok (.iload_n 2, 1) := dk_28 (dk_at dksX5_daysUntilFound_3 0 rfl rfl)
theorem dX5_daysUntilFound_71 : decode cX5_daysUntilFound 71 = .ok (.ireturn, 1) := dk_172 (dk_at dksX5_daysUntilFound_3 1 rfl rfl)
abbrev mX5_daysUntilFound : sd_Y := (yX5_daysUntilFound, cX5_daysUntilFound, 3, some (.int), none)
def fX5_daysUntilFound_b56 (G : sd_G) (w0 : Nat) (w2 : Int32) : sd_M Int32 :=
  sd_bnd (sd_isC G 4 w0) fun _ =>
  sd_bnd (fX5_bringBack G w0) fun _ =>
  if w2 ≤ 30 then (
    sd_ret w2)
  else (
    sd_ret (-1))
set_option maxHeartbeats 4000000 in
theorem sX5_daysUntilFound_b56 (l : Launch) (G : sd_G) (a0 : Nat) (a1 : Int32) (ρ : Int32) (h2 : sd_H) (cT : Nat × Nat) (w0 : Nat) (w2 : Int32) (h : sd_H) (c : Nat × Nat) (hf : fX5_daysUntilFound_b56 G w0 w2 h = some (ρ, c, h2)) : sd_J mX5_daysUntilFound ((l, G), (8, 179), [.ref a0, .int a1], (sd_oI ρ, h2), cT) 56 [(0, .ref w0), (2, .int w2)] [] h c := by
  unfold fX5_daysUntilFound_b56 at hf
  refine sj_aload_n 0 dX5_daysUntilFound_56 rfl ?_
  obtain ⟨fs57, he57, hf⟩ := sd_isC_some hf
  refine sj_cV (rest := []) (fun _ _ _ e => sj_runV (n := 0) (As := []) (rest := []) (sX5_bringBack l G w0 h _ _ _ e) he57 rfl rfl rfl rfl q3380 q3382 qs112 q127 q3383 (by decide +kernel) rfl rfl ⟨Nat.le_of_ble_eq_true rfl, Nat.le_of_ble_eq_true rfl⟩ rfl (Nat.le_of_ble_eq_true rfl) dX5_daysUntilFound_57) hf (fun h c hf => ?_)
  refine sj_iload_n 1 dX5_daysUntilFound_60 rfl ?_
  refine sj_bipush (v := 30) dX5_daysUntilFound_61 (by decide) ?_
  refine sj_icle 70 hf dX5_daysUntilFound_63 (by decide) (fun g63 hf => ?_) (fun g63 hf => ?_)
  · refine sj_iload_n 1 dX5_daysUntilFound_70 rfl ?_
    exact sj_iret (o := sd_oI) hf rfl rfl rfl dX5_daysUntilFound_71
  · refine sj_iconst (v := (-1)) dX5_daysUntilFound_66 (by decide) ?_
    refine sj_goto 71 dX5_daysUntilFound_67 (by decide) ?_
    exact sj_iret (o := sd_oI) hf rfl rfl rfl dX5_daysUntilFound_71
def fX5_daysUntilFound_b25 (G : sd_G) (k25 : Nat × Int32 × Int32 → sd_M Int32) (w0 : Nat) (w1 : Int32) (w2 : Int32) : sd_M Int32 :=
  if 30 < w2 then (
    fX5_daysUntilFound_b56 G w0 w2)
  else (
    sd_bnd (sd_getR G 4 15 w0) fun v2 =>
    sd_bnd (sd_aldI G 0 v2 ((173 : Int32) + w1)) fun v3 =>
    if v3 = 0 then (
      sd_bnd (sd_isC G 4 w0) fun _ =>
      sd_bnd (fX5_go G w0 1) fun r4 =>
      sd_bnd (sd_ret (w2 + 1)) fun x5 =>
      k25 (w0, w1, x5))
    else (
      fX5_daysUntilFound_b56 G w0 w2))
set_option maxHeartbeats 4000000 in
theorem sX5_daysUntilFound_b25 (l : Launch) (G : sd_G) (a0 : Nat) (a1 : Int32) (ρ : Int32) (h2 : sd_H) (cT : Nat × Nat) (k25 : Nat × Int32 × Int32 → sd_M Int32) (Hk25 : ∀ (q : Nat × Int32 × Int32) (h : sd_H) (c : Nat × Nat), k25 q h = some (ρ, c, h2) → sd_J mX5_daysUntilFound ((l, G), (8, 179), [.ref a0, .int a1], (sd_oI ρ, h2), cT) 25 [(0, .ref q.1), (1, .int q.2.1), (2, .int q.2.2)] [] h c) (w0 : Nat) (w1 : Int32) (w2 : Int32) (h : sd_H) (c : Nat × Nat) (hf : fX5_daysUntilFound_b25 G k25 w0 w1 w2 h = some (ρ, c, h2)) : sd_J mX5_daysUntilFound ((l, G), (8, 179), [.ref a0, .int a1], (sd_oI ρ, h2), cT) 25 [(0, .ref w0), (1, .int w1), (2, .int w2)] [] h c := by
  unfold fX5_daysUntilFound_b25 at hf
  refine sj_iload_n 2 dX5_daysUntilFound_25 rfl ?_
  refine sj_bipush (v := 30) dX5_daysUntilFound_26 (by decide) ?_
  refine sj_icgt 56 hf dX5_daysUntilFound_28 (by decide) (fun g28 hf => ?_) (fun g28 hf => ?_)
  · exact sj_loc [0, 2] rfl (sX5_daysUntilFound_b56 l G a0 a1 ρ h2 cT w0 w2 _ _ hf)
  · refine sj_aload_n 0 dX5_daysUntilFound_31 rfl ?_
    refine sj_getR fdX5_40_4 hf dX5_daysUntilFound_32 (fun v2 hf => ?_)
    refine sj_sipush (v := 173) dX5_daysUntilFound_35 (by decide) ?_
    refine sj_iload_n 1 dX5_daysUntilFound_38 rfl ?_
    refine sj_iadd dX5_daysUntilFound_39 ?_
    refine sj_iald hf dX5_daysUntilFound_40 (fun v3 hf => ?_)
    refine sj_ifne 56 hf dX5_daysUntilFound_41 (by decide) (fun g41 hf => ?_) (fun g41 hf => ?_)
    · exact sj_loc [0, 2] rfl (sX5_daysUntilFound_b56 l G a0 a1 ρ h2 cT w0 w2 _ _ hf)
    · refine sj_aload_n 0 dX5_daysUntilFound_44 rfl ?_
      refine sj_iconst (v := 1) dX5_daysUntilFound_45 (by decide) ?_
      obtain ⟨fs46, he46, hf⟩ := sd_isC_some hf
      refine sj_cI (rest := []) (fun _ _ _ e => sj_runV (n := 1) (As := [.int 1]) (rest := []) (sX5_go l G w0 1 h _ _ _ e) he46 rfl rfl rfl rfl q3335 q3337 qs105 q127 q3338 (by decide +kernel) rfl rfl ⟨Nat.le_of_ble_eq_true rfl, Nat.le_of_ble_eq_true rfl⟩ rfl (Nat.le_of_ble_eq_true rfl) dX5_daysUntilFound_46) hf (fun r4 h c hf => ?_)
      refine sj_pop dX5_daysUntilFound_49 rfl ?_
      refine sj_iincN 2 (fun x5 => [(2, .int x5), (0, .ref w0), (1, .int w1)]) 1 hf dX5_daysUntilFound_50 rfl (by decide) (by decide) (fun _ => rfl) (fun x5 hf => ?_)
      refine sj_goto 25 dX5_daysUntilFound_53 (by decide) ?_
      exact sj_loc [1, 2, 0] rfl (Hk25 (w0, w1, x5) _ _ hf)
theorem sX5_daysUntilFound_b25_loop (l : Launch) (G : sd_G) (a0 : Nat) (a1 : Int32) (ρ : Int32) (h2 : sd_H) (cT : Nat × Nat) (n : Nat) : ∀ (q : Nat × Int32 × Int32) (h : sd_H) (c : Nat × Nat), sd_loop (fun k s => fX5_daysUntilFound_b25 G k s.1 s.2.1 s.2.2) n q h = some (ρ, c, h2) → sd_J mX5_daysUntilFound ((l, G), (8, 179), [.ref a0, .int a1], (sd_oI ρ, h2), cT) 25 [(0, .ref q.1), (1, .int q.2.1), (2, .int q.2.2)] [] h c := by
  induction n with
  | zero => intro q h c hf; cases hf
  | succ n ih => intro q h c hf; exact sX5_daysUntilFound_b25 l G a0 a1 ρ h2 cT _ ih _ _ _ _ _ hf
def fX5_daysUntilFound (G : sd_G) (a0 : Nat) (a1 : Int32) : sd_M Int32 :=
  sd_bnd (sd_put 4 0 .int a0 (.int 0)) fun _ =>
  sd_bnd (sd_isC G 4 a0) fun _ =>
  sd_bnd (fX5_isFind G a0 a1) fun r1 =>
  if r1 = 0 then (
    sd_bnd (sd_isC G 4 a0) fun _ =>
    sd_bnd (fX5_no G a0 1) fun r6 =>
    sd_ret r6)
  else (
    sd_bnd (sd_isC G 4 a0) fun _ =>
    sd_bnd (fX5_keep G a0) fun _ =>
    sd_loop (fun k s => fX5_daysUntilFound_b25 G k s.1 s.2.1 s.2.2) sd_FU (a0, a1, 0))
set_option maxHeartbeats 4000000 in
theorem sX5_daysUntilFound (l : Launch) (G : sd_G) (a0 : Nat) (a1 : Int32) (h : sd_H) (ρ : Int32) (cT : Nat × Nat) (h2 : sd_H) (hf : fX5_daysUntilFound G a0 a1 h = some (ρ, cT, h2)) : sd_Met mX5_daysUntilFound ((l, G), (8, 179), [.ref a0, .int a1], (sd_oI ρ, h2), cT) h := by
  refine sd_entry (plainFor_of_name rfl) rfl (Nat.le_of_ble_eq_true rfl) ?_
  show sd_J mX5_daysUntilFound ((l, G), (8, 179), [.ref a0, .int a1], (sd_oI ρ, h2), cT) 0 [(0, .ref a0), (1, .int a1)] [] h cT
  unfold fX5_daysUntilFound at hf
  refine sj_aload_n 0 dX5_daysUntilFound_0 rfl ?_
  refine sj_iconst (v := 0) dX5_daysUntilFound_1 (by decide) ?_
  refine sj_put (fpX5_58_4 _ _) hf dX5_daysUntilFound_2 (fun h hf => ?_)
  refine sj_aload_n 0 dX5_daysUntilFound_5 rfl ?_
  refine sj_iload_n 1 dX5_daysUntilFound_6 rfl ?_
  obtain ⟨fs7, he7, hf⟩ := sd_isC_some hf
  refine sj_cI (rest := []) (fun _ _ _ e => sj_runV (n := 1) (As := [.int a1]) (rest := []) (sX5_isFind l G a0 a1 h _ _ _ e) he7 rfl rfl rfl rfl q3226 q3228 qs91 q127 q3229 (by decide +kernel) rfl rfl ⟨Nat.le_of_ble_eq_true rfl, Nat.le_of_ble_eq_true rfl⟩ rfl (Nat.le_of_ble_eq_true rfl) dX5_daysUntilFound_7) hf (fun r1 h c hf => ?_)
  refine sj_ifne 19 hf dX5_daysUntilFound_10 (by decide) (fun g10 hf => ?_) (fun g10 hf => ?_)
  · refine sj_aload_n 0 dX5_daysUntilFound_19 rfl ?_
    obtain ⟨fs20, he20, hf⟩ := sd_isC_some hf
    refine sj_cV (rest := []) (fun _ _ _ e => sj_runV (n := 0) (As := []) (rest := []) (sX5_keep l G a0 h _ _ _ e) he20 rfl rfl rfl rfl q3375 q3377 qs111 q127 q3378 (by decide +kernel) rfl rfl ⟨Nat.le_of_ble_eq_true rfl, Nat.le_of_ble_eq_true rfl⟩ rfl (Nat.le_of_ble_eq_true rfl) dX5_daysUntilFound_20) hf (fun h c hf => ?_)
    refine sj_iconst (v := 0) dX5_daysUntilFound_23 (by decide) ?_
    refine sj_istore_n [(2, .int 0), (0, .ref a0), (1, .int a1)] dX5_daysUntilFound_24 (by decide) rfl ?_
    exact sj_loc [1, 2, 0] rfl (sX5_daysUntilFound_b25_loop l G a0 a1 ρ h2 cT sd_FU (a0, a1, 0) _ _ hf)
  · refine sj_aload_n 0 dX5_daysUntilFound_13 rfl ?_
    refine sj_iconst (v := 1) dX5_daysUntilFound_14 (by decide) ?_
    obtain ⟨fs15, he15, hf⟩ := sd_isC_some hf
    refine sj_cI (rest := []) (fun _ _ _ e => sj_runV (n := 1) (As := [.int 1]) (rest := []) (sX5_no l G a0 1 h _ _ _ e) he15 rfl rfl rfl rfl q2913 q2915 qs42 q127 q2916 (by decide +kernel) rfl rfl ⟨Nat.le_of_ble_eq_true rfl, Nat.le_of_ble_eq_true rfl⟩ rfl (Nat.le_of_ble_eq_true rfl) dX5_daysUntilFound_15) hf (fun r6 h c hf => ?_)
    exact sj_iret (o := sd_oI) hf rfl rfl rfl dX5_daysUntilFound_18
/-! SofaDigModel.slideBy(I)I -/
abbrev cX5_slideBy : ByteArray := prog_46_method_121_code
def yX5_slideBy : MethodName := ⟨RX5, "slideBy", "(I)I"⟩
def dkwX5_slideBy_1 : List UInt8 := [100, 62, 42, 182, 1, 179, 29, 172]
abbrev dktX5_slideBy_1 : List UInt8 := dkwX5_slideBy_1 ++ []
def dkwX5_slideBy_0 : List UInt8 := [42, 182, 1, 176, 42, 180, 0, 40, 6, 46, 61, 42, 27, 182, 0, 157, 87, 42, 180, 0, 40, 6, 46, 28]
abbrev dktX5_slideBy_0 : List UInt8 := dkwX5_slideBy_0 ++ dktX5_slideBy_1
theorem dksX5_slideBy_0 : cX5_slideBy.data.toList.drop 0 = dktX5_slideBy_0 := by decide +kernel
theorem dksX5_slideBy_1 : cX5_slideBy.data.toList.drop 24 = dktX5_slideBy_1 := dk_seg dksX5_slideBy_0 24 rfl rfl
theorem dX5_slideBy_0 : decode cX5_slideBy 0 = .ok (.aload_n 0, 1) := dk_42 (dk_at dksX5_slideBy_0 0 rfl rfl)
theorem dX5_slideBy_1 : decode cX5_slideBy 1 = .ok (.invokevirtual 432, 3) := dk_182 1 176 (dk_at dksX5_slideBy_0 1 rfl rfl)
theorem dX5_slideBy_4 : decode cX5_slideBy 4 = .ok (.aload_n 0, 1) := dk_42 (dk_at dksX5_slideBy_0 4 rfl rfl)
theorem dX5_slideBy_5 : decode cX5_slideBy 5 = .ok (.getfield 40, 3) := dk_180 0 40 (dk_at dksX5_slideBy_0 5 rfl rfl)
theorem dX5_slideBy_8 : decode cX5_slideBy 8 = .ok (.iconst 3, 1) := dk_6 (dk_at dksX5_slideBy_0 8 rfl rfl)
theorem dX5_slideBy_9 : decode cX5_slideBy 9 = .ok (.iaload, 1) := dk_46 (dk_at dksX5_slideBy_0 9 rfl rfl)
theorem dX5_slideBy_10 : decode cX5_slideBy 10 = .ok (.istore_n 2, 1) := dk_61 (dk_at dksX5_slideBy_0 10 rfl rfl)
theorem dX5_slideBy_11 : decode cX5_slideBy 11 = .ok (.aload_n 0, 1) := dk_42 (dk_at dksX5_slideBy_0 11 rfl rfl)
theorem dX5_slideBy_12 : decode cX5_slideBy 12 = .ok (.iload_n 1, 1) := dk_27 (dk_at dksX5_slideBy_0 12 rfl rfl)
theorem dX5_slideBy_13 : decode cX5_slideBy 13 = .ok (.invokevirtual 157, 3) := dk_182 0 157 (dk_at dksX5_slideBy_0 13 rfl rfl)
theorem dX5_slideBy_16 : decode cX5_slideBy 16 = .ok (.pop, 1) := dk_87 (dk_at dksX5_slideBy_0 16 rfl rfl)
theorem dX5_slideBy_17 : decode cX5_slideBy 17 = .ok (.aload_n 0, 1) := dk_42 (dk_at dksX5_slideBy_0 17 rfl rfl)
theorem dX5_slideBy_18 : decode cX5_slideBy 18 = .ok (.getfield 40, 3) := dk_180 0 40 (dk_at dksX5_slideBy_0 18 rfl rfl)
theorem dX5_slideBy_21 : decode cX5_slideBy 21 = .ok (.iconst 3, 1) := dk_6 (dk_at dksX5_slideBy_0 21 rfl rfl)
theorem dX5_slideBy_22 : decode cX5_slideBy 22 = .ok (.iaload, 1) := dk_46 (dk_at dksX5_slideBy_0 22 rfl rfl)
theorem dX5_slideBy_23 : decode cX5_slideBy 23 = .ok (.iload_n 2, 1) := dk_28 (dk_at dksX5_slideBy_0 23 rfl rfl)
theorem dX5_slideBy_24 : decode cX5_slideBy 24 = .ok (.isub, 1) := dk_100 (dk_at dksX5_slideBy_1 0 rfl rfl)
theorem dX5_slideBy_25 : decode cX5_slideBy 25 = .ok (.istore_n 3, 1) := dk_62 (dk_at dksX5_slideBy_1 1 rfl rfl)
theorem dX5_slideBy_26 : decode cX5_slideBy 26 = .ok (.aload_n 0, 1) := dk_42 (dk_at dksX5_slideBy_1 2 rfl rfl)
theorem dX5_slideBy_27 : decode cX5_slideBy 27 = .ok (.invokevirtual 435, 3) := dk_182 1 179 (dk_at dksX5_slideBy_1 3 rfl rfl)
theorem dX5_slideBy_30 : decode cX5_slideBy 30 = .ok (.iload_n 3, 1) := dk_29 (dk_at dksX5_slideBy_1 6 rfl rfl)
theorem dX5_slideBy_31 : decode cX5_slideBy 31 = .ok (.ireturn, 1) := dk_172 (dk_at dksX5_slideBy_1 7 rfl rfl)
abbrev mX5_slideBy : sd_Y := (yX5_slideBy, cX5_slideBy, 4, some (.int), none)
def fX5_slideBy (G : sd_G) (a0 : Nat) (a1 : Int32) : sd_M Int32 :=
  sd_bnd (sd_isC G 4 a0) fun _ =>
  sd_bnd (fX5_keep G a0) fun _ =>
  sd_bnd (sd_getR G 4 15 a0) fun v1 =>
  sd_bnd (sd_aldI G 0 v1 3) fun v2 =>
  sd_bnd (sd_isC G 4 a0) fun _ =>
  sd_bnd (fX5_digs G a0 a1) fun r3 =>
  sd_bnd (sd_getR G 4 15 a0) fun v4 =>
  sd_bnd (sd_aldI G 0 v4 3) fun v5 =>
  sd_bnd (sd_ret (v5 - v2)) fun x6 =>
  sd_bnd (sd_isC G 4 a0) fun _ =>
  sd_bnd (fX5_bringBack G a0) fun _ =>
  sd_ret x6
set_option maxHeartbeats 4000000 in
theorem sX5_slideBy (l : Launch) (G : sd_G) (a0 : Nat) (a1 : Int32) (h : sd_H) (ρ : Int32) (cT : Nat × Nat) (h2 : sd_H) (hf : fX5_slideBy G a0 a1 h = some (ρ, cT, h2)) : sd_Met mX5_slideBy ((l, G), (6, 133), [.ref a0, .int a1], (sd_oI ρ, h2), cT) h := by
  refine sd_entry (plainFor_of_name rfl) rfl (Nat.le_of_ble_eq_true rfl) ?_
  show sd_J mX5_slideBy ((l, G), (6, 133), [.ref a0, .int a1], (sd_oI ρ, h2), cT) 0 [(0, .ref a0), (1, .int a1)] [] h cT
  unfold fX5_slideBy at hf
  refine sj_aload_n 0 dX5_slideBy_0 rfl ?_
  obtain ⟨fs1, he1, hf⟩ := sd_isC_some hf
  refine sj_cV (rest := []) (fun _ _ _ e => sj_runV (n := 0) (As := []) (rest := []) (sX5_keep l G a0 h _ _ _ e) he1 rfl rfl rfl rfl q3375 q3377 qs111 q127 q3378 (by decide +kernel) rfl rfl ⟨Nat.le_of_ble_eq_true rfl, Nat.le_of_ble_eq_true rfl⟩ rfl (Nat.le_of_ble_eq_true rfl) dX5_slideBy_1) hf (fun h c hf => ?_)
  refine sj_aload_n 0 dX5_slideBy_4 rfl ?_
  refine sj_getR fdX5_40_4 hf dX5_slideBy_5 (fun v1 hf => ?_)
  refine sj_iconst (v := 3) dX5_slideBy_8 (by decide) ?_
  refine sj_iald hf dX5_slideBy_9 (fun v2 hf => ?_)
  refine sj_istore_n [(2, .int v2), (0, .ref a0), (1, .int a1)] dX5_slideBy_10 (by decide) rfl ?_
  refine sj_aload_n 1 dX5_slideBy_11 rfl ?_
  refine sj_iload_n 2 dX5_slideBy_12 rfl ?_
  obtain ⟨fs13, he13, hf⟩ := sd_isC_some hf
  refine sj_cI (rest := []) (fun _ _ _ e => sj_runV (n := 1) (As := [.int a1]) (rest := []) (sX5_digs l G a0 a1 h _ _ _ e) he13 rfl rfl rfl rfl q3303 q3305 qs100 q127 q3306 (by decide +kernel) rfl rfl ⟨Nat.le_of_ble_eq_true rfl, Nat.le_of_ble_eq_true rfl⟩ rfl (Nat.le_of_ble_eq_true rfl) dX5_slideBy_13) hf (fun r3 h c hf => ?_)
  refine sj_pop dX5_slideBy_16 rfl ?_
  refine sj_aload_n 1 dX5_slideBy_17 rfl ?_
  refine sj_getR fdX5_40_4 hf dX5_slideBy_18 (fun v4 hf => ?_)
  refine sj_iconst (v := 3) dX5_slideBy_21 (by decide) ?_
  refine sj_iald hf dX5_slideBy_22 (fun v5 hf => ?_)
  refine sj_iload_n 0 dX5_slideBy_23 rfl ?_
  refine sj_isub dX5_slideBy_24 ?_
  refine sj_nameI hf (fun x6 hf => ?_)
  refine sj_istore_n [(3, .int x6), (2, .int v2), (0, .ref a0), (1, .int a1)] dX5_slideBy_25 (by decide) rfl ?_
  refine sj_aload_n 2 dX5_slideBy_26 rfl ?_
  obtain ⟨fs27, he27, hf⟩ := sd_isC_some hf
  refine sj_cV (rest := []) (fun _ _ _ e => sj_runV (n := 0) (As := []) (rest := []) (sX5_bringBack l G a0 h _ _ _ e) he27 rfl rfl rfl rfl q3380 q3382 qs112 q127 q3383 (by decide +kernel) rfl rfl ⟨Nat.le_of_ble_eq_true rfl, Nat.le_of_ble_eq_true rfl⟩ rfl (Nat.le_of_ble_eq_true rfl) dX5_slideBy_27) hf (fun h c hf => ?_)
  refine sj_iload_n 0 dX5_slideBy_30 rfl ?_
  exact sj_iret (o := sd_oI) hf rfl rfl rfl dX5_slideBy_31
/-! SofaDigModel.wouldSlide(I)I -/
abbrev cX5_wouldSlide : ByteArray := prog_46_method_122_code
def yX5_wouldSlide : MethodName := ⟨RX5, "wouldSlide", "(I)I"⟩
def dkwX5_wouldSlide_0 : List UInt8 := [42, 27, 182, 1, 151, 153, 0, 11, 42, 27, 182, 1, 182, 167, 0, 4, 3, 172]
abbrev dktX5_wouldSlide_0 : List UInt8 := dkwX5_wouldSlide_0 ++ []
theorem dksX5_wouldSlide_0 : cX5_wouldSlide.data.toList.drop 0 = dktX5_wouldSlide_0 := by decide +kernel
theorem dX5_wouldSlide_0 : decode cX5_wouldSlide 0 = .ok (.aload_n 0, 1) := dk_42 (dk_at dksX5_wouldSlide_0 0 rfl rfl)
theorem dX5_wouldSlide_1 : decode cX5_wouldSlide 1 = .ok (.iload_n 1, 1) := dk_27 (dk_at dksX5_wouldSlide_0 1 rfl rfl)
theorem dX5_wouldSlide_2 : decode cX5_wouldSlide 2 = .ok (.invokevirtual 407, 3) := dk_182 1 151 (dk_at dksX5_wouldSlide_0 2 rfl rfl)
theorem dX5_wouldSlide_5 : decode cX5_wouldSlide 5 = .ok (.ifCond .eq 11, 3) := dk_153 0 11 (dk_at dksX5_wouldSlide_0 5 rfl rfl)
theorem dX5_wouldSlide_8 : decode cX5_wouldSlide 8 = .ok (.aload_n 0, 1) := dk_42 (dk_at dksX5_wouldSlide_0 8 rfl rfl)
theorem dX5_wouldSlide_9 : decode cX5_wouldSlide 9 = .ok (.iload_n 1, 1) := dk_27 (dk_at dksX5_wouldSlide_0 9 rfl rfl)
theorem dX5_wouldSlide_10 : decode cX5_wouldSlide 10 = .ok (.invokevirtual 438, 3) := dk_182 1 182 (dk_at dksX5_wouldSlide_0 10 rfl rfl)
theorem dX5_wouldSlide_13 : decode cX5_wouldSlide 13 = .ok (.goto 4, 3) := dk_167 0 4 (dk_at dksX5_wouldSlide_0 13 rfl rfl)
theorem dX5_wouldSlide_16 : decode cX5_wouldSlide 16 = .ok (.iconst 0, 1) := dk_3 (dk_at dksX5_wouldSlide_0 16 rfl rfl)
theorem dX5_wouldSlide_17 : decode cX5_wouldSlide 17 = .ok (.ireturn, 1) := dk_172 (dk_at dksX5_wouldSlide_0 17 rfl rfl)
abbrev mX5_wouldSlide : sd_Y := (yX5_wouldSlide, cX5_wouldSlide, 2, some (.int), none)
def fX5_wouldSlide (G : sd_G) (a0 : Nat) (a1 : Int32) : sd_M Int32 :=
  sd_bnd (sd_isC G 4 a0) fun _ =>
  sd_bnd (fX5_hasTop G a0 a1) fun r1 =>
  if r1 = 0 then (
    sd_ret 0)
  else (
    sd_bnd (sd_isC G 4 a0) fun _ =>
    sd_bnd (fX5_slideBy G a0 a1) fun r2 =>
    sd_ret r2)
set_option maxHeartbeats 4000000 in
theorem sX5_wouldSlide (l : Launch) (G : sd_G) (a0 : Nat) (a1 : Int32) (h : sd_H) (ρ : Int32) (cT : Nat × Nat) (h2 : sd_H) (hf : fX5_wouldSlide G a0 a1 h = some (ρ, cT, h2)) : sd_Met mX5_wouldSlide ((l, G), (7, 156), [.ref a0, .int a1], (sd_oI ρ, h2), cT) h := by
  refine sd_entry (plainFor_of_name rfl) rfl (Nat.le_of_ble_eq_true rfl) ?_
  show sd_J mX5_wouldSlide ((l, G), (7, 156), [.ref a0, .int a1], (sd_oI ρ, h2), cT) 0 [(0, .ref a0), (1, .int a1)] [] h cT
  unfold fX5_wouldSlide at hf
  refine sj_aload_n 0 dX5_wouldSlide_0 rfl ?_
  refine sj_iload_n 1 dX5_wouldSlide_1 rfl ?_
  obtain ⟨fs2, he2, hf⟩ := sd_isC_some hf
  refine sj_cI (rest := []) (fun _ _ _ e => sj_runV (n := 1) (As := [.int a1]) (rest := []) (sX5_hasTop l G a0 a1 h _ _ _ e) he2 rfl rfl rfl rfl q3198 q3200 qs88 q127 q3201 (by decide +kernel) rfl rfl ⟨Nat.le_of_ble_eq_true rfl, Nat.le_of_ble_eq_true rfl⟩ rfl (Nat.le_of_ble_eq_true rfl) dX5_wouldSlide_2) hf (fun r1 h c hf => ?_)
  refine sj_ifeq 16 hf dX5_wouldSlide_5 (by decide) (fun g5 hf => ?_) (fun g5 hf => ?_)
  · refine sj_iconst (v := 0) dX5_wouldSlide_16 (by decide) ?_
    exact sj_iret (o := sd_oI) hf rfl rfl rfl dX5_wouldSlide_17
  · refine sj_aload_n 0 dX5_wouldSlide_8 rfl ?_
    refine sj_iload_n 1 dX5_wouldSlide_9 rfl ?_
    obtain ⟨fs10, he10, hf⟩ := sd_isC_some hf
    refine sj_cI (rest := []) (fun _ _ _ e => sj_runV (n := 1) (As := [.int a1]) (rest := []) (sX5_slideBy l G a0 a1 h _ _ _ e) he10 rfl rfl rfl rfl q3392 q3394 qs113 q127 q3395 (by decide +kernel) rfl rfl ⟨Nat.le_of_ble_eq_true rfl, Nat.le_of_ble_eq_true rfl⟩ rfl (Nat.le_of_ble_eq_true rfl) dX5_wouldSlide_10) hf (fun r2 h c hf => ?_)
    refine sj_goto 17 dX5_wouldSlide_13 (by decide) ?_
    exact sj_iret (o := sd_oI) hf rfl rfl rfl dX5_wouldSlide_17
/-! SofaDigModel.best()I -/
abbrev cX5_best : ByteArray := prog_46_method_123_code
def yX5_best : MethodName := ⟨RX5, "best", "()I"⟩
def dkwX5_best_3 : List UInt8 := [21, 4, 61, 132, 3, 1, 167, 255, 186, 27, 172]
abbrev dktX5_best_3 : List UInt8 := dkwX5_best_3 ++ []
def dkwX5_best_2 : List UInt8 := [21, 4, 28, 160, 0, 19, 42, 29, 182, 1, 154, 42, 27, 182, 1, 154, 163, 0, 6, 167, 0, 8, 29, 60]
abbrev dktX5_best_2 : List UInt8 := dkwX5_best_2 ++ dktX5_best_3
def dkwX5_best_1 : List UInt8 := [154, 0, 6, 167, 0, 48, 42, 29, 182, 1, 182, 54, 4, 27, 2, 159, 0, 31, 21, 4, 28, 163, 0, 30]
abbrev dktX5_best_1 : List UInt8 := dkwX5_best_1 ++ dktX5_best_2
def dkwX5_best_0 : List UInt8 := [2, 60, 3, 61, 3, 62, 29, 42, 180, 0, 20, 180, 0, 52, 162, 0, 65, 42, 29, 182, 0, 74]
abbrev dktX5_best_0 : List UInt8 := dkwX5_best_0 ++ dktX5_best_1
theorem dksX5_best_0 : cX5_best.data.toList.drop 0 = dktX5_best_0 := by decide +kernel
theorem dksX5_best_1 : cX5_best.data.toList.drop 22 = dktX5_best_1 := dk_seg dksX5_best_0 22 rfl rfl
theorem dksX5_best_2 : cX5_best.data.toList.drop 46 = dktX5_best_2 := dk_seg dksX5_best_1 24 rfl rfl
theorem dksX5_best_3 : cX5_best.data.toList.drop 70 = dktX5_best_3 := dk_seg dksX5_best_2 24 rfl rfl
theorem dX5_best_0 : decode cX5_best 0 = .ok (.iconst (-1), 1) := dk_2 (dk_at dksX5_best_0 0 rfl rfl)
theorem dX5_best_1 : decode cX5_best 1 = .ok (.istore_n 1, 1) := dk_60 (dk_at dksX5_best_0 1 rfl rfl)
theorem dX5_best_2 : decode cX5_best 2 = .ok (.iconst 0, 1) := dk_3 (dk_at dksX5_best_0 2 rfl rfl)
theorem dX5_best_3 : decode cX5_best 3 = .ok (.istore_n 2, 1) := dk_61 (dk_at dksX5_best_0 3 rfl rfl)
theorem dX5_best_4 : decode cX5_best 4 = .ok (.iconst 0, 1) := dk_3 (dk_at dksX5_best_0 4 rfl rfl)
theorem dX5_best_5 : decode cX5_best 5 = .ok (.istore_n 3, 1) := dk_62 (dk_at dksX5_best_0 5 rfl rfl)
theorem dX5_best_6 : decode cX5_best 6 = .ok (.iload_n 3, 1) := dk_29 (dk_at dksX5_best_0 6 rfl rfl)
theorem dX5_best_7 : decode cX5_best 7 = .ok (.aload_n 0, 1) := dk_42 (dk_at dksX5_best_0 7 rfl rfl)
theorem dX5_best_8 : decode cX5_best 8 = .ok (.getfield 20, 3) := dk_180 0 20 (dk_at dksX5_best_0 8 rfl rfl)
theorem dX5_best_11 : decode cX5_best 11 = .ok (.getfield 52, 3) := dk_180 0 52 (dk_at dksX5_best_0 11 rfl rfl)
theorem dX5_best_14 : decode cX5_best 14 = .ok (.if_icmp .ge 65, 3) := dk_162 0 65 (dk_at dksX5_best_0 14 rfl rfl)
theorem dX5_best_17 : decode cX5_best 17 = .ok (.aload_n 0, 1) := dk_42 (dk_at dksX5_best_0 17 rfl rfl)
theorem dX5_best_18 : decode cX5_best 18 = .ok (.iload_n 3, 1) := dk_29 (dk_at dksX5_best_0 18 rfl rfl)
theorem dX5_best_19 : decode cX5_best 19 = .ok (.invokevirtual 74, 3) := dk_182 0 74 (dk_at dksX5_best_0 19 rfl rfl)
theorem dX5_best_22 : decode cX5_best 22 = .ok (.ifCond .ne 6, 3) := dk_154 0 6 (dk_at dksX5_best_1 0 rfl rfl)
theorem dX5_best_25 : decode cX5_best 25 = .ok (.goto 48, 3) := dk_167 0 48 (dk_at dksX5_best_1 3 rfl rfl)
theorem dX5_best_28 : decode cX5_best 28 = .ok (.aload_n 0, 1) := dk_42 (dk_at dksX5_best_1 6 rfl rfl)
theorem dX5_best_29 : decode cX5_best 29 = .ok (.iload_n 3, 1) := dk_29 (dk_at dksX5_best_1 7 rfl rfl)
theorem dX5_best_30 : decode cX5_best 30 = .ok (.invokevirtual 438, 3) := dk_182 1 182 (dk_at dksX5_best_1 8 rfl rfl)
theorem dX5_best_33 : decode cX5_best 33 = .ok (.istore 4, 2) := dk_54 4 (dk_at dksX5_best_1 11 rfl rfl)
theorem dX5_best_35 : decode cX5_best 35 = .ok (.iload_n 1, 1) := dk_27 (dk_at dksX5_best_1 13 rfl rfl)
theorem dX5_best_36 : decode cX5_best 36 = .ok (.iconst (-1), 1) := dk_2 (dk_at dksX5_best_1 14 rfl rfl)
theorem dX5_best_37 : decode cX5_best 37 = .ok (.if_icmp .eq 31, 3) := dk_159 0 31 (dk_at dksX5_best_1 15 rfl rfl)
theorem dX5_best_40 : decode cX5_best 40 = .ok (.iload 4, 2) := dk_21 4 (dk_at dksX5_best_1 18 rfl rfl)
theorem dX5_best_42 : decode cX5_best 42 = .ok (.iload_n 2, 1) := dk_28 (dk_at dksX5_best_1 20 rfl rfl)
theorem dX5_best_43 : decode cX5_best 43 = .ok (.if_icmp .gt 30, 3) := dk_163 0 30 (dk_at dksX5_best_1 21 rfl rfl)
theorem dX5_best_46 : decode cX5_best 46 = .ok (.iload 4, 2) := dk_21 4 (dk_at dksX5_best_2 0 rfl rfl)
theorem dX5_best_48 : decode cX5_best 48 = .ok (.iload_n 2, 1) := dk_28 (dk_at dksX5_best_2 2 rfl rfl)
theorem dX5_best_49 : decode cX5_best 49 = .ok (.if_icmp .ne 19, 3) := dk_160 0 19 (dk_at dksX5_best_2 3 rfl rfl)
theorem dX5_best_52 : decode cX5_best 52 = .ok (.aload_n 0, 1) := dk_42 (dk_at dksX5_best_2 6 rfl rfl)
theorem dX5_best_53 : decode cX5_best 53 = .ok (.iload_n 3, 1) := dk_29 (dk_at dksX5_best_2 7 rfl rfl)
theorem dX5_best_54 : decode cX5_best 54 = .ok (.invokevirtual 410, 3) := dk_182 1 154 (dk_at dksX5_best_2 8 rfl rfl)
theorem dX5_best_57 : decode cX5_best 57 = .ok (.aload_n 0, 1) := dk_42 (dk_at dksX5_best_2 11 rfl rfl)
theorem dX5_best_58 : decode cX5_best 58 = .ok (.iload_n 1, 1) := dk_27 (dk_at dksX5_best_2 12 rfl rfl)
theorem dX5_best_59 : decode cX5_best 59 = .ok (.invokevirtual 410, 3) := dk_182 1 154 (dk_at dksX5_best_2 13 rfl rfl)
theorem dX5_best_62 : decode cX5_best 62 = .ok (.if_icmp .gt 6, 3) := dk_163 0 6 (dk_at dksX5_best_2 16 rfl rfl)
theorem dX5_best_65 : decode cX5_best 65 = .ok (.goto 8, 3) := dk_167 0 8 (dk_at dksX5_best_2 19 rfl rfl)
theorem dX5_best_68 : decode cX5_best 68 = .ok (.iload_n 3, 1) := dk_29 (dk_at dksX5_best_2 22 rfl rfl)
theorem dX5_best_69 : decode cX5_best 69 = .ok (.istore_n 1, 1) := dk_60 (dk_at dksX5_best_2 23 rfl rfl)
theorem dX5_best_70 : decode cX5_best 70 = .ok (.iload 4, 2) := dk_21 4 (dk_at dksX5_best_3 0 rfl rfl)
theorem dX5_best_72 : decode cX5_best 72 = .ok (.istore_n 2, 1) := dk_61 (dk_at dksX5_best_3 2 rfl rfl)
theorem dX5_best_73 : decode cX5_best 73 = .ok (.iinc 3 1, 3) := dk_132 3 1 (dk_at dksX5_best_3 3 rfl rfl)
theorem dX5_best_76 : decode cX5_best 76 = .ok (.goto (-70), 3) := dk_167 255 186 (dk_at dksX5_best_3 6 rfl rfl)
theorem dX5_best_79 : decode cX5_best 79 = .ok (.iload_n 1, 1) := dk_27 (dk_at dksX5_best_3 9 rfl rfl)
theorem dX5_best_80 : decode cX5_best 80 = .ok (.ireturn, 1) := dk_172 (dk_at dksX5_best_3 10 rfl rfl)
abbrev mX5_best : sd_Y := (yX5_best, cX5_best, 5, some (.int), none)
def fX5_best_b6 (G : sd_G) (k6 : Nat × Int32 × Int32 × Int32 → sd_M Int32) (w0 : Nat) (w1 : Int32) (w2 : Int32) (w3 : Int32) : sd_M Int32 :=
  sd_bnd (sd_getR G 4 4 w0) fun v1 =>
  sd_bnd (sd_getI G 5 0 v1) fun v2 =>
  if v2 ≤ w3 then (
    sd_ret w1)
  else (
    sd_bnd (sd_isC G 4 w0) fun _ =>
    sd_bnd (fX5_tall G w0 w3) fun r3 =>
    if r3 = 0 then (
      sd_bnd (sd_ret (w3 + 1)) fun x12 =>
      k6 (w0, w1, w2, x12))
    else (
      sd_bnd (sd_isC G 4 w0) fun _ =>
      sd_bnd (fX5_slideBy G w0 w3) fun r4 =>
      if w1 = (-1) then (
        sd_bnd (sd_ret (w3 + 1)) fun x5 =>
        k6 (w0, w3, r4, x5))
      else (
        if w2 < r4 then (
          sd_bnd (sd_ret (w3 + 1)) fun x6 =>
          k6 (w0, w1, w2, x6))
        else (
          if r4 = w2 then (
            sd_bnd (sd_isC G 4 w0) fun _ =>
            sd_bnd (fX5_left G w0 w3) fun r8 =>
            sd_bnd (sd_isC G 4 w0) fun _ =>
            sd_bnd (fX5_left G w0 w1) fun r9 =>
            if r9 < r8 then (
              sd_bnd (sd_ret (w3 + 1)) fun x10 =>
              k6 (w0, w3, r4, x10))
            else (
              sd_bnd (sd_ret (w3 + 1)) fun x11 =>
              k6 (w0, w1, w2, x11)))
          else (
            sd_bnd (sd_ret (w3 + 1)) fun x7 =>
            k6 (w0, w3, r4, x7))))))
set_option maxHeartbeats 4000000 in
theorem sX5_best_b6 (l : Launch) (G : sd_G) (a0 : Nat) (ρ : Int32) (h2 : sd_H) (cT : Nat × Nat) (k6 : Nat × Int32 × Int32 × Int32 → sd_M Int32) (Hk6 : ∀ (q : Nat × Int32 × Int32 × Int32) (h : sd_H) (c : Nat × Nat), k6 q h = some (ρ, c, h2) → sd_J mX5_best ((l, G), (7, 156), [.ref a0], (sd_oI ρ, h2), cT) 6 [(0, .ref q.1), (1, .int q.2.1), (2, .int q.2.2.1), (3, .int q.2.2.2)] [] h c) (w0 : Nat) (w1 : Int32) (w2 : Int32) (w3 : Int32) (h : sd_H) (c : Nat × Nat) (hf : fX5_best_b6 G k6 w0 w1 w2 w3 h = some (ρ, c, h2)) : sd_J mX5_best ((l, G), (7, 156), [.ref a0], (sd_oI ρ, h2), cT) 6 [(0, .ref w0), (1, .int w1), (2, .int w2), (3, .int w3)] [] h c := by
  unfold fX5_best_b6 at hf
  refine sj_iload_n 3 dX5_best_6 rfl ?_
  refine sj_aload_n 0 dX5_best_7 rfl ?_
  refine sj_getR fdX5_20_4 hf dX5_best_8 (fun v1 hf => ?_)
  refine sj_getI fdX5_52_5 hf dX5_best_11 (fun v2 hf => ?_)
  refine sj_icge 79 hf dX5_best_14 (by decide) (fun g14 hf => ?_) (fun g14 hf => ?_)
  · refine sj_iload_n 1 dX5_best_79 rfl ?_
    exact sj_iret (o := sd_oI) hf rfl rfl rfl dX5_best_80
  · refine sj_aload_n 0 dX5_best_17 rfl ?_
    refine sj_iload_n 3 dX5_best_18 rfl ?_
    obtain ⟨fs19, he19, hf⟩ := sd_isC_some hf
    refine sj_cI (rest := []) (fun _ _ _ e => sj_runV (n := 1) (As := [.int w3]) (rest := []) (sX5_tall l G w0 w3 h _ _ _ e) he19 rfl rfl rfl rfl q3178 q3180 qs85 q127 q3181 (by decide +kernel) rfl rfl ⟨Nat.le_of_ble_eq_true rfl, Nat.le_of_ble_eq_true rfl⟩ rfl (Nat.le_of_ble_eq_true rfl) dX5_best_19) hf (fun r3 h c hf => ?_)
    refine sj_ifne 28 hf dX5_best_22 (by decide) (fun g22 hf => ?_) (fun g22 hf => ?_)
    · refine sj_aload_n 0 dX5_best_28 rfl ?_
      refine sj_iload_n 3 dX5_best_29 rfl ?_
      obtain ⟨fs30, he30, hf⟩ := sd_isC_some hf
      refine sj_cI (rest := []) (fun _ _ _ e => sj_runV (n := 1) (As := [.int w3]) (rest := []) (sX5_slideBy l G w0 w3 h _ _ _ e) he30 rfl rfl rfl rfl q3392 q3394 qs113 q127 q3395 (by decide +kernel) rfl rfl ⟨Nat.le_of_ble_eq_true rfl, Nat.le_of_ble_eq_true rfl⟩ rfl (Nat.le_of_ble_eq_true rfl) dX5_best_30) hf (fun r4 h c hf => ?_)
      refine sj_istore [(4, .int r4), (0, .ref w0), (1, .int w1), (2, .int w2), (3, .int w3)] dX5_best_33 (by decide) rfl ?_
      refine sj_iload_n 2 dX5_best_35 rfl ?_
      refine sj_iconst (v := (-1)) dX5_best_36 (by decide) ?_
      refine sj_iceq 68 hf dX5_best_37 (by decide) (fun g37 hf => ?_) (fun g37 hf => ?_)
      · refine sj_iload_n 4 dX5_best_68 rfl ?_
        refine sj_istore_n [(1, .int w3), (4, .int r4), (0, .ref w0), (2, .int w2), (3, .int w3)] dX5_best_69 (by decide) rfl ?_
        refine sj_iload 1 dX5_best_70 rfl ?_
        refine sj_istore_n [(2, .int r4), (1, .int w3), (4, .int r4), (0, .ref w0), (3, .int w3)] dX5_best_72 (by decide) rfl ?_
        refine sj_iincN 4 (fun x5 => [(3, .int x5), (2, .int r4), (1, .int w3), (4, .int r4), (0, .ref w0)]) 1 hf dX5_best_73 rfl (by decide) (by decide) (fun _ => rfl) (fun x5 hf => ?_)
        refine sj_goto 6 dX5_best_76 (by decide) ?_
        exact sj_loc [4, 2, 1, 0] rfl (Hk6 (w0, w3, r4, x5) _ _ hf)
      · refine sj_iload 0 dX5_best_40 rfl ?_
        refine sj_iload_n 3 dX5_best_42 rfl ?_
        refine sj_icgt 73 hf dX5_best_43 (by decide) (fun g43 hf => ?_) (fun g43 hf => ?_)
        · refine sj_iincN 4 (fun x6 => [(3, .int x6), (4, .int r4), (0, .ref w0), (1, .int w1), (2, .int w2)]) 1 hf dX5_best_73 rfl (by decide) (by decide) (fun _ => rfl) (fun x6 hf => ?_)
          refine sj_goto 6 dX5_best_76 (by decide) ?_
          exact sj_loc [2, 3, 4, 0] rfl (Hk6 (w0, w1, w2, x6) _ _ hf)
        · refine sj_iload 0 dX5_best_46 rfl ?_
          refine sj_iload_n 3 dX5_best_48 rfl ?_
          refine sj_icne 68 hf dX5_best_49 (by decide) (fun g49 hf => ?_) (fun g49 hf => ?_)
          · refine sj_iload_n 4 dX5_best_68 rfl ?_
            refine sj_istore_n [(1, .int w3), (4, .int r4), (0, .ref w0), (2, .int w2), (3, .int w3)] dX5_best_69 (by decide) rfl ?_
            refine sj_iload 1 dX5_best_70 rfl ?_
            refine sj_istore_n [(2, .int r4), (1, .int w3), (4, .int r4), (0, .ref w0), (3, .int w3)] dX5_best_72 (by decide) rfl ?_
            refine sj_iincN 4 (fun x7 => [(3, .int x7), (2, .int r4), (1, .int w3), (4, .int r4), (0, .ref w0)]) 1 hf dX5_best_73 rfl (by decide) (by decide) (fun _ => rfl) (fun x7 hf => ?_)
            refine sj_goto 6 dX5_best_76 (by decide) ?_
            exact sj_loc [4, 2, 1, 0] rfl (Hk6 (w0, w3, r4, x7) _ _ hf)
          · refine sj_aload_n 1 dX5_best_52 rfl ?_
            refine sj_iload_n 4 dX5_best_53 rfl ?_
            obtain ⟨fs54, he54, hf⟩ := sd_isC_some hf
            refine sj_cI (rest := []) (fun _ _ _ e => sj_runV (n := 1) (As := [.int w3]) (rest := []) (sX5_left l G w0 w3 h _ _ _ e) he54 rfl rfl rfl rfl q3218 q3220 qs90 q127 q3221 (by decide +kernel) rfl rfl ⟨Nat.le_of_ble_eq_true rfl, Nat.le_of_ble_eq_true rfl⟩ rfl (Nat.le_of_ble_eq_true rfl) dX5_best_54) hf (fun r8 h c hf => ?_)
            refine sj_aload_n 1 dX5_best_57 rfl ?_
            refine sj_iload_n 2 dX5_best_58 rfl ?_
            obtain ⟨fs59, he59, hf⟩ := sd_isC_some hf
            refine sj_cI (rest := [.int r8]) (fun _ _ _ e => sj_runV (n := 1) (As := [.int w1]) (rest := [.int r8]) (sX5_left l G w0 w1 h _ _ _ e) he59 rfl rfl rfl rfl q3218 q3220 qs90 q127 q3221 (by decide +kernel) rfl rfl ⟨Nat.le_of_ble_eq_true rfl, Nat.le_of_ble_eq_true rfl⟩ rfl (Nat.le_of_ble_eq_true rfl) dX5_best_59) hf (fun r9 h c hf => ?_)
            refine sj_icgt 68 hf dX5_best_62 (by decide) (fun g62 hf => ?_) (fun g62 hf => ?_)
            · refine sj_iload_n 4 dX5_best_68 rfl ?_
              refine sj_istore_n [(1, .int w3), (4, .int r4), (0, .ref w0), (2, .int w2), (3, .int w3)] dX5_best_69 (by decide) rfl ?_
              refine sj_iload 1 dX5_best_70 rfl ?_
              refine sj_istore_n [(2, .int r4), (1, .int w3), (4, .int r4), (0, .ref w0), (3, .int w3)] dX5_best_72 (by decide) rfl ?_
              refine sj_iincN 4 (fun x10 => [(3, .int x10), (2, .int r4), (1, .int w3), (4, .int r4), (0, .ref w0)]) 1 hf dX5_best_73 rfl (by decide) (by decide) (fun _ => rfl) (fun x10 hf => ?_)
              refine sj_goto 6 dX5_best_76 (by decide) ?_
              exact sj_loc [4, 2, 1, 0] rfl (Hk6 (w0, w3, r4, x10) _ _ hf)
            · refine sj_goto 73 dX5_best_65 (by decide) ?_
              refine sj_iincN 4 (fun x11 => [(3, .int x11), (4, .int r4), (0, .ref w0), (1, .int w1), (2, .int w2)]) 1 hf dX5_best_73 rfl (by decide) (by decide) (fun _ => rfl) (fun x11 hf => ?_)
              refine sj_goto 6 dX5_best_76 (by decide) ?_
              exact sj_loc [2, 3, 4, 0] rfl (Hk6 (w0, w1, w2, x11) _ _ hf)
    · refine sj_goto 73 dX5_best_25 (by decide) ?_
      refine sj_iincN 3 (fun x12 => [(3, .int x12), (0, .ref w0), (1, .int w1), (2, .int w2)]) 1 hf dX5_best_73 rfl (by decide) (by decide) (fun _ => rfl) (fun x12 hf => ?_)
      refine sj_goto 6 dX5_best_76 (by decide) ?_
      exact sj_loc [1, 2, 3, 0] rfl (Hk6 (w0, w1, w2, x12) _ _ hf)
theorem sX5_best_b6_loop (l : Launch) (G : sd_G) (a0 : Nat) (ρ : Int32) (h2 : sd_H) (cT : Nat × Nat) (n : Nat) : ∀ (q : Nat × Int32 × Int32 × Int32) (h : sd_H) (c : Nat × Nat), sd_loop (fun k s => fX5_best_b6 G k s.1 s.2.1 s.2.2.1 s.2.2.2) n q h = some (ρ, c, h2) → sd_J mX5_best ((l, G), (7, 156), [.ref a0], (sd_oI ρ, h2), cT) 6 [(0, .ref q.1), (1, .int q.2.1), (2, .int q.2.2.1), (3, .int q.2.2.2)] [] h c := by
  induction n with
  | zero => intro q h c hf; cases hf
  | succ n ih => intro q h c hf; exact sX5_best_b6 l G a0 ρ h2 cT _ ih _ _ _ _ _ _ hf
def fX5_best (G : sd_G) (a0 : Nat) : sd_M Int32 :=
  sd_loop (fun k s => fX5_best_b6 G k s.1 s.2.1 s.2.2.1 s.2.2.2) sd_FU (a0, (-1), 0, 0)
set_option maxHeartbeats 4000000 in
theorem sX5_best (l : Launch) (G : sd_G) (a0 : Nat) (h : sd_H) (ρ : Int32) (cT : Nat × Nat) (h2 : sd_H) (hf : fX5_best G a0 h = some (ρ, cT, h2)) : sd_Met mX5_best ((l, G), (7, 156), [.ref a0], (sd_oI ρ, h2), cT) h := by
  refine sd_entry (plainFor_of_name rfl) rfl (Nat.le_of_ble_eq_true rfl) ?_
  show sd_J mX5_best ((l, G), (7, 156), [.ref a0], (sd_oI ρ, h2), cT) 0 [(0, .ref a0)] [] h cT
  unfold fX5_best at hf
  refine sj_iconst (v := (-1)) dX5_best_0 (by decide) ?_
  refine sj_istore_n [(1, .int (-1)), (0, .ref a0)] dX5_best_1 (by decide) rfl ?_
  refine sj_iconst (v := 0) dX5_best_2 (by decide) ?_
  refine sj_istore_n [(2, .int 0), (1, .int (-1)), (0, .ref a0)] dX5_best_3 (by decide) rfl ?_
  refine sj_iconst (v := 0) dX5_best_4 (by decide) ?_
  refine sj_istore_n [(3, .int 0), (2, .int 0), (1, .int (-1)), (0, .ref a0)] dX5_best_5 (by decide) rfl ?_
  exact sj_loc [3, 2, 1, 0] rfl (sX5_best_b6_loop l G a0 ρ h2 cT sd_FU (a0, (-1), 0, 0) _ _ hf)
/-! SofaDigModel.bestDig()I -/
abbrev cX5_bestDig : ByteArray := prog_46_method_124_code
def yX5_bestDig : MethodName := ⟨RX5, "bestDig", "()I"⟩
def dkwX5_bestDig_0 : List UInt8 := [42, 42, 182, 1, 185, 182, 1, 145, 172]
abbrev dktX5_bestDig_0 : List UInt8 := dkwX5_bestDig_0 ++ []
theorem dksX5_bestDig_0 : cX5_bestDig.data.toList.drop 0 = dktX5_bestDig_0 := by decide +kernel
theorem dX5_bestDig_0 : decode cX5_bestDig 0 = .ok (.aload_n 0, 1) := dk_42 (dk_at dksX5_bestDig_0 0 rfl rfl)
theorem dX5_bestDig_1 : decode cX5_bestDig 1 = .ok (.aload_n 0, 1) := dk_42 (dk_at dksX5_bestDig_0 1 rfl rfl)
theorem dX5_bestDig_2 : decode cX5_bestDig 2 = .ok (.invokevirtual 441, 3) := dk_182 1 185 (dk_at dksX5_bestDig_0 2 rfl rfl)
theorem dX5_bestDig_5 : decode cX5_bestDig 5 = .ok (.invokevirtual 401, 3) := dk_182 1 145 (dk_at dksX5_bestDig_0 5 rfl rfl)
theorem dX5_bestDig_8 : decode cX5_bestDig 8 = .ok (.ireturn, 1) := dk_172 (dk_at dksX5_bestDig_0 8 rfl rfl)
abbrev mX5_bestDig : sd_Y := (yX5_bestDig, cX5_bestDig, 1, some (.int), none)
def fX5_bestDig (G : sd_G) (a0 : Nat) : sd_M Int32 :=
  sd_bnd (sd_isC G 4 a0) fun _ =>
  sd_bnd (fX5_best G a0) fun r1 =>
  sd_bnd (sd_isC G 4 a0) fun _ =>
  sd_bnd (fX5_ok G a0 r1) fun r2 =>
  sd_ret r2
set_option maxHeartbeats 4000000 in
theorem sX5_bestDig (l : Launch) (G : sd_G) (a0 : Nat) (h : sd_H) (ρ : Int32) (cT : Nat × Nat) (h2 : sd_H) (hf : fX5_bestDig G a0 h = some (ρ, cT, h2)) : sd_Met mX5_bestDig ((l, G), (8, 180), [.ref a0], (sd_oI ρ, h2), cT) h := by
  refine sd_entry (plainFor_of_name rfl) rfl (Nat.le_of_ble_eq_true rfl) ?_
  show sd_J mX5_bestDig ((l, G), (8, 180), [.ref a0], (sd_oI ρ, h2), cT) 0 [(0, .ref a0)] [] h cT
  unfold fX5_bestDig at hf
  refine sj_aload_n 0 dX5_bestDig_0 rfl ?_
  refine sj_aload_n 0 dX5_bestDig_1 rfl ?_
  obtain ⟨fs2, he2, hf⟩ := sd_isC_some hf
  refine sj_cI (rest := [.ref a0]) (fun _ _ _ e => sj_runV (n := 0) (As := []) (rest := [.ref a0]) (sX5_best l G a0 h _ _ _ e) he2 rfl rfl rfl rfl q3400 q3402 qs114 q127 q3403 (by decide +kernel) rfl rfl ⟨Nat.le_of_ble_eq_true rfl, Nat.le_of_ble_eq_true rfl⟩ rfl (Nat.le_of_ble_eq_true rfl) dX5_bestDig_2) hf (fun r1 h c hf => ?_)
  obtain ⟨fs5, he5, hf⟩ := sd_isC_some hf
  refine sj_cI (rest := []) (fun _ _ _ e => sj_runV (n := 1) (As := [.int r1]) (rest := []) (sX5_ok l G a0 r1 h _ _ _ e) he5 rfl rfl rfl rfl q3113 q3115 qs82 q127 q3116 (by decide +kernel) rfl rfl ⟨Nat.le_of_ble_eq_true rfl, Nat.le_of_ble_eq_true rfl⟩ rfl (Nat.le_of_ble_eq_true rfl) dX5_bestDig_5) hf (fun r2 h c hf => ?_)
  exact sj_iret (o := sd_oI) hf rfl rfl rfl dX5_bestDig_8
/-! SofaDigModel.meanYear()D -/
abbrev cX5_meanYear : ByteArray := prog_46_method_125_code
def yX5_meanYear : MethodName := ⟨RX5, "meanYear", "()D"⟩
def dkwX5_meanYear_3 : List UInt8 := [167, 0, 8, 27, 135, 28, 135, 111, 175]
abbrev dktX5_meanYear_3 : List UInt8 := dkwX5_meanYear_3 ++ []
def dkwX5_meanYear_2 : List UInt8 := [180, 0, 20, 180, 0, 122, 29, 46, 96, 60, 132, 2, 1, 132, 3, 1, 167, 255, 204, 28, 154, 0, 7, 14]
abbrev dktX5_meanYear_2 : List UInt8 := dkwX5_meanYear_2 ++ dktX5_meanYear_3
def dkwX5_meanYear_1 : List UInt8 := [180, 0, 20, 180, 0, 119, 29, 51, 153, 0, 29, 42, 29, 182, 0, 113, 154, 0, 6, 167, 0, 18, 27, 42]
abbrev dktX5_meanYear_1 : List UInt8 := dkwX5_meanYear_1 ++ dktX5_meanYear_2
def dkwX5_meanYear_0 : List UInt8 := [42, 3, 181, 0, 58, 3, 60, 3, 61, 3, 62, 29, 42, 180, 0, 20, 180, 0, 65, 162, 0, 47, 42]
abbrev dktX5_meanYear_0 : List UInt8 := dkwX5_meanYear_0 ++ dktX5_meanYear_1
theorem dksX5_meanYear_0 : cX5_meanYear.data.toList.drop 0 = dktX5_meanYear_0 := by decide +kernel
theorem dksX5_meanYear_1 : cX5_meanYear.data.toList.drop 23 = dktX5_meanYear_1 := dk_seg dksX5_meanYear_0 23 rfl rfl
theorem dksX5_meanYear_2 : cX5_meanYear.data.toList.drop 47 = dktX5_meanYear_2 := dk_seg dksX5_meanYear_1 24 rfl rfl
theorem dksX5_meanYear_3 : cX5_meanYear.data.toList.drop 71 = dktX5_meanYear_3 := dk_seg dksX5_meanYear_2 24 rfl rfl
theorem dX5_meanYear_0 : decode cX5_meanYear 0 = .ok (.aload_n 0, 1) := dk_42 (dk_at dksX5_meanYear_0 0 rfl rfl)
theorem dX5_meanYear_1 : decode cX5_meanYear 1 = .ok (.iconst 0, 1) := dk_3 (dk_at dksX5_meanYear_0 1 rfl rfl)
theorem dX5_meanYear_2 : decode cX5_meanYear 2 = .ok (.putfield 58, 3) := dk_181 0 58 (dk_at dksX5_meanYear_0 2 rfl rfl)
theorem dX5_meanYear_5 : decode cX5_meanYear 5 = .ok (.iconst 0, 1) := dk_3 (dk_at dksX5_meanYear_0 5 rfl rfl)
theorem dX5_meanYear_6 : decode cX5_meanYear 6 = .ok (.istore_n 1, 1) := dk_60 (dk_at dksX5_meanYear_0 6 rfl rfl)
theorem dX5_meanYear_7 : decode cX5_meanYear 7 = .ok (.iconst 0, 1) := dk_3 (dk_at dksX5_meanYear_0 7 rfl rfl)
theorem dX5_meanYear_8 : decode cX5_meanYear 8 = .ok (.istore_n 2, 1) := dk_61 (dk_at dksX5_meanYear_0 8 rfl rfl)
theorem dX5_meanYear_9 : decode cX5_meanYear 9 = .ok (.iconst 0, 1) := dk_3 (dk_at dksX5_meanYear_0 9 rfl rfl)
theorem dX5_meanYear_10 : decode cX5_meanYear 10 = .ok (.istore_n 3, 1) := dk_62 (dk_at dksX5_meanYear_0 10 rfl rfl)
theorem dX5_meanYear_11 : decode cX5_meanYear 11 = .ok (.iload_n 3, 1) := dk_29 (dk_at dksX5_meanYear_0 11 rfl rfl)
theorem dX5_meanYear_12 : decode cX5_meanYear 12 = .ok (.aload_n 0, 1) := dk_42 (dk_at dksX5_meanYear_0 12 rfl rfl)
theorem dX5_meanYear_13 : decode cX5_meanYear 13 = .ok (.getfield 20, 3) := dk_180 0 20 (dk_at dksX5_meanYear_0 13 rfl rfl)
theorem dX5_meanYear_16 : decode cX5_meanYear 16 = .ok (.getfield 65, 3) := dk_180 0 65 (dk_at dksX5_meanYear_0 16 rfl rfl)
theorem dX5_meanYear_19 : decode cX5_meanYear 19 = .ok (.if_icmp .ge 47, 3) := dk_162 0 47 (dk_at dksX5_meanYear_0 19 rfl rfl)
theorem dX5_meanYear_22 : decode cX5_meanYear 22 = .ok (.aload_n 0, 1) := dk_42 (dk_at dksX5_meanYear_0 22 rfl rfl)
theorem dX5_meanYear_23 : decode cX5_meanYear 23 = .ok (.getfield 20, 3) := dk_180 0 20 (dk_at dksX5_meanYear_1 0 rfl rfl)
theorem dX5_meanYear_26 : decode cX5_meanYear 26 = .ok (.getfield 119, 3) := dk_180 0 119 (dk_at dksX5_meanYear_1 3 rfl rfl)
theorem dX5_meanYear_29 : decode cX5_meanYear 29 = .ok (.iload_n 3, 1) := dk_29 (dk_at dksX5_meanYear_1 6 rfl rfl)
theorem dX5_meanYear_30 : decode cX5_meanYear 30 = .ok (.baload, 1) := dk_51 (dk_at dksX5_meanYear_1 7 rfl rfl)
theorem dX5_meanYear_31 : decode cX5_meanYear 31 = .ok (.ifCond .eq 29, 3) := dk_153 0 29 (dk_at dksX5_meanYear_1 8 rfl rfl)
theorem dX5_meanYear_34 : decode cX5_meanYear 34 = .ok (.aload_n 0, 1) := dk_42 (dk_at dksX5_meanYear_1 11 rfl rfl)
theorem dX5_meanYear_35 : decode cX5_meanYear 35 = .ok (.iload_n 3, 1) := dk_29 (dk_at dksX5_meanYear_1 12 rfl rfl)
theorem dX5_meanYear_36 : decode cX5_meanYear 36 = .ok (.invokevirtual 113, 3) := dk_182 0 113 (dk_at dksX5_meanYear_1 13 rfl rfl)
theorem dX5_meanYear_39 : decode cX5_meanYear 39 = .ok (.ifCond .ne 6, 3) := dk_154 0 6 (dk_at dksX5_meanYear_1 16 rfl rfl)
theorem dX5_meanYear_42 : decode cX5_meanYear 42 = .ok (.goto 18, 3) := dk_167 0 18 (dk_at dksX5_meanYear_1 19 rfl rfl)
theorem dX5_meanYear_45 : decode cX5_meanYear 45 = .ok (.iload_n 1, 1) := dk_27 (dk_at dksX5_meanYear_1 22 rfl rfl)
theorem dX5_meanYear_46 : decode cX5_meanYear 46 = .ok (.aload_n 0, 1) := dk_42 (dk_at dksX5_meanYear_1 23 rfl rfl)
theorem dX5_meanYear_47 : decode cX5_meanYear 47 = .ok (.getfield 20, 3) := dk_180 0 20 (dk_at dksX5_meanYear_2 0 rfl rfl)
theorem dX5_meanYear_50 : decode cX5_meanYear 50 = .ok (.getfield 122, 3) := dk_180 0 122 (dk_at dksX5_meanYear_2 3 rfl rfl)
theorem dX5_meanYear_53 : decode cX5_meanYear 53 = .ok (.iload_n 3, 1) := dk_29 (dk_at dksX5_meanYear_2 6 rfl rfl)
theorem dX5_meanYear_54 : decode cX5_meanYear 54 = .ok (.iaload, 1) := dk_46 (dk_at dksX5_meanYear_2 7 rfl rfl)
theorem dX5_meanYear_55 : decode cX5_meanYear 55 = .ok (.iadd, 1) := dk_96 (dk_at dksX5_meanYear_2 8 rfl rfl)
theorem dX5_meanYear_56 : decode cX5_meanYear 56 = .ok (.istore_n 1, 1) := dk_60 (dk_at dksX5_meanYear_2 9 rfl rfl)
theorem dX5_meanYear_57 : decode cX5_meanYear 57 = .ok (.iinc 2 1, 3) := dk_132 2 1 (dk_at dksX5_meanYear_2 10 rfl rfl)
theorem dX5_meanYear_60 : decode cX5_meanYear 60 = .ok (.iinc 3 1, 3) := dk_132 3 1 (dk_at dksX5_meanYear_2 13 rfl rfl)
theorem dX5_meanYear_63 : decode cX5_meanYear 63 = .ok (.goto (-52), 3) := dk_167 255 204 (dk_at dksX5_meanYear_2 16 rfl rfl)
theorem dX5_meanYear_66 : decode cX5_meanYear 66 = .ok (.iload_n 2, 1) := dk_28 (dk_at dksX5_meanYear_2 19 rfl rfl)
theorem dX5_meanYear_67 : decode cX5_meanYear 67 = .ok (.ifCond .ne 7, 3) := dk_154 0 7 (dk_at dksX5_meanYear_2 20 rfl rfl)
theorem dX5_meanYear_70 : decode cX5_meanYear 70 = .ok (.dconst 0, 1) := dk_14 (dk_at dksX5_meanYear_2 23 rfl rfl)
theorem dX5_meanYear_71 : decode cX5_meanYear 71 = .ok (.goto 8, 3) := dk_167 0 8 (dk_at dksX5_meanYear_3 0 rfl rfl)
theorem dX5_meanYear_74 : decode cX5_meanYear 74 = .ok (.iload_n 1, 1) := dk_27 (dk_at dksX5_meanYear_3 3 rfl rfl)
theorem dX5_meanYear_75 : decode cX5_meanYear 75 = .ok (.i2d, 1) := dk_135 (dk_at dksX5_meanYear_3 4 rfl rfl)
theorem dX5_meanYear_76 : decode cX5_meanYear 76 = .ok (.iload_n 2, 1) := dk_28 (dk_at dksX5_meanYear_3 5 rfl rfl)
theorem dX5_meanYear_77 : decode cX5_meanYear 77 = .ok (.i2d, 1) := dk_135 (dk_at dksX5_meanYear_3 6 rfl rfl)
theorem dX5_meanYear_78 : decode cX5_meanYear 78 = .ok (.ddiv, 1) := dk_111 (dk_at dksX5_meanYear_3 7 rfl rfl)
theorem dX5_meanYear_79 : decode cX5_meanYear 79 = .ok (.dreturn, 1) := dk_175 (dk_at dksX5_meanYear_3 8 rfl rfl)
abbrev mX5_meanYear : sd_Y := (yX5_meanYear, cX5_meanYear, 4, some (.double), none)
def fX5_meanYear_b11 (G : sd_G) (k11 : Nat × Int32 × Int32 × Int32 → sd_M UInt64) (w0 : Nat) (w1 : Int32) (w2 : Int32) (w3 : Int32) : sd_M UInt64 :=
  sd_bnd (sd_getR G 4 4 w0) fun v1 =>
  sd_bnd (sd_getI G 5 6 v1) fun v2 =>
  if v2 ≤ w3 then (
    if w2 = 0 then (
      sd_ret (FP.dconst0))
    else (
      sd_bnd (sd_dn (FP.i2d w1) (FP.i2d w2)) fun _ =>
      sd_ret (FP.ddiv (FP.i2d w1) (FP.i2d w2))))
  else (
    sd_bnd (sd_getR G 4 4 w0) fun v3 =>
    sd_bnd (sd_getR G 5 7 v3) fun v4 =>
    sd_bnd (sd_aldI G 3 v4 w3) fun v5 =>
    if v5 = 0 then (
      sd_bnd (sd_ret (w3 + 1)) fun x6 =>
      k11 (w0, w1, w2, x6))
    else (
      sd_bnd (sd_isC G 4 w0) fun _ =>
      sd_bnd (fX5_sure G w0 w3) fun r7 =>
      if r7 = 0 then (
        sd_bnd (sd_ret (w3 + 1)) fun x14 =>
        k11 (w0, w1, w2, x14))
      else (
        sd_bnd (sd_getR G 4 4 w0) fun v8 =>
        sd_bnd (sd_getR G 5 9 v8) fun v9 =>
        sd_bnd (sd_aldI G 0 v9 w3) fun v10 =>
        sd_bnd (sd_ret (w1 + v10)) fun x11 =>
        sd_bnd (sd_ret (w2 + 1)) fun x12 =>
        sd_bnd (sd_ret (w3 + 1)) fun x13 =>
        k11 (w0, x11, x12, x13))))
set_option maxHeartbeats 4000000 in
theorem sX5_meanYear_b11 (l : Launch) (G : sd_G) (a0 : Nat) (ρ : UInt64) (h2 : sd_H) (cT : Nat × Nat) (k11 : Nat × Int32 × Int32 × Int32 → sd_M UInt64) (Hk11 : ∀ (q : Nat × Int32 × Int32 × Int32) (h : sd_H) (c : Nat × Nat), k11 q h = some (ρ, c, h2) → sd_J mX5_meanYear ((l, G), (1, 21), [.ref a0], (sd_oD ρ, h2), cT) 11 [(0, .ref q.1), (1, .int q.2.1), (2, .int q.2.2.1), (3, .int q.2.2.2)] [] h c) (w0 : Nat) (w1 : Int32) (w2 : Int32) (w3 : Int32) (h : sd_H) (c : Nat × Nat) (hf : fX5_meanYear_b11 G k11 w0 w1 w2 w3 h = some (ρ, c, h2)) : sd_J mX5_meanYear ((l, G), (1, 21), [.ref a0], (sd_oD ρ, h2), cT) 11 [(0, .ref w0), (1, .int w1), (2, .int w2), (3, .int w3)] [] h c := by
  unfold fX5_meanYear_b11 at hf
  refine sj_iload_n 3 dX5_meanYear_11 rfl ?_
  refine sj_aload_n 0 dX5_meanYear_12 rfl ?_
  refine sj_getR fdX5_20_4 hf dX5_meanYear_13 (fun v1 hf => ?_)
  refine sj_getI fdX5_65_5 hf dX5_meanYear_16 (fun v2 hf => ?_)
  refine sj_icge 66 hf dX5_meanYear_19 (by decide) (fun g19 hf => ?_) (fun g19 hf => ?_)
  · refine sj_iload_n 2 dX5_meanYear_66 rfl ?_
    refine sj_ifne 74 hf dX5_meanYear_67 (by decide) (fun g67 hf => ?_) (fun g67 hf => ?_)
    · refine sj_iload_n 1 dX5_meanYear_74 rfl ?_
      refine sj_i2d dX5_meanYear_75 ?_
      refine sj_iload_n 2 dX5_meanYear_76 rfl ?_
      refine sj_i2d dX5_meanYear_77 ?_
      obtain ⟨hz78, hf⟩ := sd_dn_some hf
      refine sj_ddiv dX5_meanYear_78 hz78 ?_
      exact sj_dret (o := sd_oD) hf rfl rfl rfl dX5_meanYear_79
    · refine sj_dconst0 dX5_meanYear_70 ?_
      refine sj_goto 79 dX5_meanYear_71 (by decide) ?_
      exact sj_dret (o := sd_oD) hf rfl rfl rfl dX5_meanYear_79
  · refine sj_aload_n 0 dX5_meanYear_22 rfl ?_
    refine sj_getR fdX5_20_4 hf dX5_meanYear_23 (fun v3 hf => ?_)
    refine sj_getR fdX5_119_5 hf dX5_meanYear_26 (fun v4 hf => ?_)
    refine sj_iload_n 3 dX5_meanYear_29 rfl ?_
    refine sj_zald hf dX5_meanYear_30 (fun v5 hf => ?_)
    refine sj_ifeq 60 hf dX5_meanYear_31 (by decide) (fun g31 hf => ?_) (fun g31 hf => ?_)
    · refine sj_iincN 3 (fun x6 => [(3, .int x6), (0, .ref w0), (1, .int w1), (2, .int w2)]) 1 hf dX5_meanYear_60 rfl (by decide) (by decide) (fun _ => rfl) (fun x6 hf => ?_)
      refine sj_goto 11 dX5_meanYear_63 (by decide) ?_
      exact sj_loc [1, 2, 3, 0] rfl (Hk11 (w0, w1, w2, x6) _ _ hf)
    · refine sj_aload_n 0 dX5_meanYear_34 rfl ?_
      refine sj_iload_n 3 dX5_meanYear_35 rfl ?_
      obtain ⟨fs36, he36, hf⟩ := sd_isC_some hf
      refine sj_cI (rest := []) (fun _ _ _ e => sj_runV (n := 1) (As := [.int w3]) (rest := []) (sX5_sure l G w0 w3 h _ _ _ e) he36 rfl rfl rfl rfl q3238 q3240 qs92 q127 q3241 (by decide +kernel) rfl rfl ⟨Nat.le_of_ble_eq_true rfl, Nat.le_of_ble_eq_true rfl⟩ rfl (Nat.le_of_ble_eq_true rfl) dX5_meanYear_36) hf (fun r7 h c hf => ?_)
      refine sj_ifne 45 hf dX5_meanYear_39 (by decide) (fun g39 hf => ?_) (fun g39 hf => ?_)
      · refine sj_iload_n 1 dX5_meanYear_45 rfl ?_
        refine sj_aload_n 0 dX5_meanYear_46 rfl ?_
        refine sj_getR fdX5_20_4 hf dX5_meanYear_47 (fun v8 hf => ?_)
        refine sj_getR fdX5_122_5 hf dX5_meanYear_50 (fun v9 hf => ?_)
        refine sj_iload_n 3 dX5_meanYear_53 rfl ?_
        refine sj_iald hf dX5_meanYear_54 (fun v10 hf => ?_)
        refine sj_iadd dX5_meanYear_55 ?_
        refine sj_nameI hf (fun x11 hf => ?_)
        refine sj_istore_n [(1, .int x11), (0, .ref w0), (2, .int w2), (3, .int w3)] dX5_meanYear_56 (by decide) rfl ?_
        refine sj_iincN 2 (fun x12 => [(2, .int x12), (1, .int x11), (0, .ref w0), (3, .int w3)]) 1 hf dX5_meanYear_57 rfl (by decide) (by decide) (fun _ => rfl) (fun x12 hf => ?_)
        refine sj_iincN 3 (fun x13 => [(3, .int x13), (2, .int x12), (1, .int x11), (0, .ref w0)]) 1 hf dX5_meanYear_60 rfl (by decide) (by decide) (fun _ => rfl) (fun x13 hf => ?_)
        refine sj_goto 11 dX5_meanYear_63 (by decide) ?_
        exact sj_loc [3, 2, 1, 0] rfl (Hk11 (w0, x11, x12, x13) _ _ hf)
      · refine sj_goto 60 dX5_meanYear_42 (by decide) ?_
        refine sj_iincN 3 (fun x14 => [(3, .int x14), (0, .ref w0), (1, .int w1), (2, .int w2)]) 1 hf dX5_meanYear_60 rfl (by decide) (by decide) (fun _ => rfl) (fun x14 hf => ?_)
        refine sj_goto 11 dX5_meanYear_63 (by decide) ?_
        exact sj_loc [1, 2, 3, 0] rfl (Hk11 (w0, w1, w2, x14) _ _ hf)
theorem sX5_meanYear_b11_loop (l : Launch) (G : sd_G) (a0 : Nat) (ρ : UInt64) (h2 : sd_H) (cT : Nat × Nat) (n : Nat) : ∀ (q : Nat × Int32 × Int32 × Int32) (h : sd_H) (c : Nat × Nat), sd_loop (fun k s => fX5_meanYear_b11 G k s.1 s.2.1 s.2.2.1 s.2.2.2) n q h = some (ρ, c, h2) → sd_J mX5_meanYear ((l, G), (1, 21), [.ref a0], (sd_oD ρ, h2), cT) 11 [(0, .ref q.1), (1, .int q.2.1), (2, .int q.2.2.1), (3, .int q.2.2.2)] [] h c := by
  induction n with
  | zero => intro q h c hf; cases hf
  | succ n ih => intro q h c hf; exact sX5_meanYear_b11 l G a0 ρ h2 cT _ ih _ _ _ _ _ _ hf
def fX5_meanYear (G : sd_G) (a0 : Nat) : sd_M UInt64 :=
  sd_bnd (sd_put 4 0 .int a0 (.int 0)) fun _ =>
  sd_loop (fun k s => fX5_meanYear_b11 G k s.1 s.2.1 s.2.2.1 s.2.2.2) sd_FU (a0, 0, 0, 0)
set_option maxHeartbeats 4000000 in
theorem sX5_meanYear (l : Launch) (G : sd_G) (a0 : Nat) (h : sd_H) (ρ : UInt64) (cT : Nat × Nat) (h2 : sd_H) (hf : fX5_meanYear G a0 h = some (ρ, cT, h2)) : sd_Met mX5_meanYear ((l, G), (1, 21), [.ref a0], (sd_oD ρ, h2), cT) h := by
  refine sd_entry (plainFor_of_name rfl) rfl (Nat.le_of_ble_eq_true rfl) ?_
  show sd_J mX5_meanYear ((l, G), (1, 21), [.ref a0], (sd_oD ρ, h2), cT) 0 [(0, .ref a0)] [] h cT
  unfold fX5_meanYear at hf
  refine sj_aload_n 0 dX5_meanYear_0 rfl ?_
  refine sj_iconst (v := 0) dX5_meanYear_1 (by decide) ?_
  refine sj_put (fpX5_58_4 _ _) hf dX5_meanYear_2 (fun h hf => ?_)
  refine sj_iconst (v := 0) dX5_meanYear_5 (by decide) ?_
  refine sj_istore_n [(1, .int 0), (0, .ref a0)] dX5_meanYear_6 (by decide) rfl ?_
  refine sj_iconst (v := 0) dX5_meanYear_7 (by decide) ?_
  refine sj_istore_n [(2, .int 0), (1, .int 0), (0, .ref a0)] dX5_meanYear_8 (by decide) rfl ?_
  refine sj_iconst (v := 0) dX5_meanYear_9 (by decide) ?_
  refine sj_istore_n [(3, .int 0), (2, .int 0), (1, .int 0), (0, .ref a0)] dX5_meanYear_10 (by decide) rfl ?_
  exact sj_loc [3, 2, 1, 0] rfl (sX5_meanYear_b11_loop l G a0 ρ h2 cT sd_FU (a0, 0, 0, 0) _ _ hf)
/-! SofaDigModel.digest()J -/
abbrev cX5_digest : ByteArray := prog_46_method_126_code
def yX5_digest : MethodName := ⟨RX5, "digest", "()J"⟩
def dkwX5_digest_15 : List UInt8 := [132, 4, 1, 167, 255, 212, 32, 173]
abbrev dktX5_digest_15 : List UInt8 := dkwX5_digest_15 ++ []
def dkwX5_digest_14 : List UInt8 := [21, 4, 182, 1, 167, 133, 97, 20, 1, 190, 105, 42, 21, 4, 182, 1, 170, 184, 0, 106, 133, 97, 65]
abbrev dktX5_digest_14 : List UInt8 := dkwX5_digest_14 ++ dktX5_digest_15
def dkwX5_digest_13 : List UInt8 := [167, 255, 196, 3, 54, 4, 21, 4, 42, 180, 0, 20, 180, 0, 55, 162, 0, 38, 32, 20, 1, 190, 105, 42]
abbrev dktX5_digest_13 : List UInt8 := dkwX5_digest_13 ++ dktX5_digest_14
def dkwX5_digest_12 : List UInt8 := [184, 0, 106, 133, 97, 20, 1, 190, 105, 42, 21, 4, 182, 0, 113, 184, 0, 106, 133, 97, 65, 132, 4, 1]
abbrev dktX5_digest_12 : List UInt8 := dkwX5_digest_12 ++ dktX5_digest_13
def dkwX5_digest_11 : List UInt8 := [20, 1, 190, 105, 42, 180, 0, 40, 17, 0, 173, 21, 4, 96, 46, 158, 0, 7, 4, 167, 0, 4, 3]
abbrev dktX5_digest_11 : List UInt8 := dkwX5_digest_11 ++ dktX5_digest_12
def dkwX5_digest_10 : List UInt8 := [132, 4, 1, 167, 255, 172, 3, 54, 4, 21, 4, 42, 180, 0, 20, 180, 0, 65, 162, 0, 54, 32]
abbrev dktX5_digest_10 : List UInt8 := dkwX5_digest_10 ++ dktX5_digest_11
def dkwX5_digest_9 : List UInt8 := [182, 0, 74, 154, 0, 7, 2, 167, 0, 12, 42, 21, 4, 182, 0, 89, 16, 10, 112, 133, 97, 65]
abbrev dktX5_digest_9 : List UInt8 := dkwX5_digest_9 ++ dktX5_digest_10
def dkwX5_digest_8 : List UInt8 := [184, 0, 106, 133, 97, 20, 1, 190, 105, 42, 21, 4, 182, 1, 154, 133, 97, 20, 1, 190, 105, 42, 21, 4]
abbrev dktX5_digest_8 : List UInt8 := dkwX5_digest_8 ++ dktX5_digest_9
def dkwX5_digest_7 : List UInt8 := [20, 1, 190, 105, 42, 21, 4, 182, 0, 74, 133, 97, 20, 1, 190, 105, 42, 21, 4, 182, 0, 82]
abbrev dktX5_digest_7 : List UInt8 := dkwX5_digest_7 ++ dktX5_digest_8
def dkwX5_digest_6 : List UInt8 := [132, 6, 1, 167, 255, 229, 3, 54, 4, 21, 4, 42, 180, 0, 20, 180, 0, 52, 162, 0, 78, 32]
abbrev dktX5_digest_6 : List UInt8 := dkwX5_digest_6 ++ dktX5_digest_7
def dkwX5_digest_5 : List UInt8 := [21, 6, 21, 5, 162, 0, 26, 25, 4, 21, 6, 46, 54, 7, 32, 20, 1, 190, 105, 21, 7, 133, 97, 65]
abbrev dktX5_digest_5 : List UInt8 := dkwX5_digest_5 ++ dktX5_digest_6
def dkwX5_digest_4 : List UInt8 := [89, 16, 9, 42, 182, 1, 185, 79, 76, 20, 1, 188, 65, 43, 58, 4, 25, 4, 190, 54, 5, 3, 54, 6]
abbrev dktX5_digest_4 : List UInt8 := dkwX5_digest_4 ++ dktX5_digest_5
def dkwX5_digest_3 : List UInt8 := [180, 0, 40, 6, 46, 79, 89, 16, 7, 42, 4, 182, 0, 164, 79, 89, 16, 8, 42, 5, 182, 0, 164, 79]
abbrev dktX5_digest_3 : List UInt8 := dkwX5_digest_3 ++ dktX5_digest_4
def dkwX5_digest_2 : List UInt8 := [46, 79, 89, 7, 42, 180, 0, 40, 4, 46, 79, 89, 8, 42, 180, 0, 40, 5, 46, 79, 89, 16, 6, 42]
abbrev dktX5_digest_2 : List UInt8 := dkwX5_digest_2 ++ dktX5_digest_3
def dkwX5_digest_1 : List UInt8 := [180, 0, 20, 180, 0, 55, 79, 89, 5, 42, 180, 0, 20, 180, 0, 65, 79, 89, 6, 42, 180, 0, 40, 3]
abbrev dktX5_digest_1 : List UInt8 := dkwX5_digest_1 ++ dktX5_digest_2
def dkwX5_digest_0 : List UInt8 := [42, 3, 181, 0, 58, 16, 10, 188, 10, 89, 3, 42, 180, 0, 20, 180, 0, 52, 79, 89, 4, 42]
abbrev dktX5_digest_0 : List UInt8 := dkwX5_digest_0 ++ dktX5_digest_1
theorem dksX5_digest_0 : cX5_digest.data.toList.drop 0 = dktX5_digest_0 := by decide +kernel
theorem dksX5_digest_1 : cX5_digest.data.toList.drop 22 = dktX5_digest_1 := dk_seg dksX5_digest_0 22 rfl rfl
theorem dksX5_digest_2 : cX5_digest.data.toList.drop 46 = dktX5_digest_2 := dk_seg dksX5_digest_1 24 rfl rfl
theorem dksX5_digest_3 : cX5_digest.data.toList.drop 70 = dktX5_digest_3 := dk_seg dksX5_digest_2 24 rfl rfl
theorem dksX5_digest_4 : cX5_digest.data.toList.drop 94 = dktX5_digest_4 := dk_seg dksX5_digest_3 24 rfl rfl
theorem dksX5_digest_5 : cX5_digest.data.toList.drop 118 = dktX5_digest_5 := dk_seg dksX5_digest_4 24 rfl rfl
theorem dksX5_digest_6 : cX5_digest.data.toList.drop 142 = dktX5_digest_6 := dk_seg dksX5_digest_5 24 rfl rfl
theorem dksX5_digest_7 : cX5_digest.data.toList.drop 164 = dktX5_digest_7 := dk_seg dksX5_digest_6 22 rfl rfl
theorem dksX5_digest_8 : cX5_digest.data.toList.drop 186 = dktX5_digest_8 := dk_seg dksX5_digest_7 22 rfl rfl
theorem dksX5_digest_9 : cX5_digest.data.toList.drop 210 = dktX5_digest_9 := dk_seg dksX5_digest_8 24 rfl rfl
theorem dksX5_digest_10 : cX5_digest.data.toList.drop 232 = dktX5_digest_10 := dk_seg dksX5_digest_9 22 rfl rfl
theorem dksX5_digest_11 : cX5_digest.data.toList.drop 254 = dktX5_digest_11 := dk_seg dksX5_digest_10 22 rfl rfl
theorem dksX5_digest_12 : cX5_digest.data.toList.drop 277 = dktX5_digest_12 := dk_seg dksX5_digest_11 23 rfl rfl
theorem dksX5_digest_13 : cX5_digest.data.toList.drop 301 = dktX5_digest_13 := dk_seg dksX5_digest_12 24 rfl rfl
theorem dksX5_digest_14 : cX5_digest.data.toList.drop 325 = dktX5_digest_14 := dk_seg dksX5_digest_13 24 rfl rfl
theorem dksX5_digest_15 : cX5_digest.data.toList.drop 348 = dktX5_digest_15 := dk_seg dksX5_digest_14 23 rfl rfl
theorem dX5_digest_0 : decode cX5_digest 0 = .ok (.aload_n 0, 1) := dk_42 (dk_at dksX5_digest_0 0 rfl rfl)
theorem dX5_digest_1 : decode cX5_digest 1 = .ok (.iconst 0, 1) := dk_3 (dk_at dksX5_digest_0 1 rfl rfl)
theorem dX5_digest_2 : decode cX5_digest 2 = .ok (.putfield 58, 3) := dk_181 0 58 (dk_at dksX5_digest_0 2 rfl rfl)
theorem dX5_digest_5 : decode cX5_digest 5 = .ok (.bipush 10, 2) := dk_16 10 (dk_at dksX5_digest_0 5 rfl rfl)
theorem dX5_digest_7 : decode cX5_digest 7 = .ok (.newarray .int, 2) := dk_188_10 (dk_at dksX5_digest_0 7 rfl rfl)
theorem dX5_digest_9 : decode cX5_digest 9 = .ok (.dup, 1) := dk_89 (dk_at dksX5_digest_0 9 rfl rfl)
theorem dX5_digest_10 : decode cX5_digest 10 = .ok (.iconst 0, 1) := dk_3 (dk_at dksX5_digest_0 10 rfl rfl)
theorem dX5_digest_11 : decode cX5_digest 11 = .ok (.aload_n 0, 1) := dk_42 (dk_at dksX5_digest_0 11 rfl rfl)
theorem dX5_digest_12 : decode cX5_digest 12 = .ok (.getfield 20, 3) := dk_180 0 20 (dk_at dksX5_digest_0 12 rfl rfl)
theorem dX5_digest_15 : decode cX5_digest 15 = .ok (.getfield 52, 3) := dk_180 0 52 (dk_at dksX5_digest_0 15 rfl rfl)
theorem dX5_digest_18 : decode cX5_digest 18 = .ok (.iastore, 1) := dk_79 (dk_at dksX5_digest_0 18 rfl rfl)
theorem dX5_digest_19 : decode cX5_digest 19 = .ok (.dup, 1) := dk_89 (dk_at dksX5_digest_0 19 rfl rfl)
theorem dX5_digest_20 : decode cX5_digest 20 = .ok (.iconst 1, 1) := dk_4 (dk_at dksX5_digest_0 20 rfl rfl)
theorem dX5_digest_21 : decode cX5_digest 21 = .ok (.aload_n 0, 1) := dk_42 (dk_at dksX5_digest_0 21 rfl rfl)
theorem dX5_digest_22 : decode cX5_digest 22 = .ok (.getfield 20, 3) := dk_180 0 20 (dk_at dksX5_digest_1 0 rfl rfl)
theorem dX5_digest_25 : decode cX5_digest 25 = .ok (.getfield 55, 3) := dk_180 0 55 (dk_at dksX5_digest_1 3 rfl rfl)
theorem dX5_digest_28 : decode cX5_digest 28 = .ok (.iastore, 1) := dk_79 (dk_at dksX5_digest_1 6 rfl rfl)
theorem dX5_digest_29 : decode cX5_digest 29 = .ok (.dup, 1) := dk_89 (dk_at dksX5_digest_1 7 rfl rfl)
theorem dX5_digest_30 : decode cX5_digest 30 = .ok (.iconst 2, 1) := dk_5 (dk_at dksX5_digest_1 8 rfl rfl)
theorem dX5_digest_31 : decode cX5_digest 31 = .ok (.aload_n 0, 1) := dk_42 (dk_at dksX5_digest_1 9 rfl rfl)
theorem dX5_digest_32 : decode cX5_digest 32 = .ok (.getfield 20, 3) := dk_180 0 20 (dk_at dksX5_digest_1 10 rfl rfl)
theorem dX5_digest_35 : decode cX5_digest 35 = .ok (.getfield 65, 3) := dk_180 0 65 (dk_at dksX5_digest_1 13 rfl rfl)
theorem dX5_digest_38 : decode cX5_digest 38 = .ok (.iastore, 1) := dk_79 (dk_at dksX5_digest_1 16 rfl rfl)
theorem dX5_digest_39 : decode cX5_digest 39 = .ok (.dup, 1) := dk_89 (dk_at dksX5_digest_1 17 rfl rfl)
theorem dX5_digest_40 : decode cX5_digest 40 = .ok (.iconst 3, 1) := dk_6 (dk_at dksX5_digest_1 18 rfl rfl)
theorem dX5_digest_41 : decode cX5_digest 41 = .ok (.aload_n 0, 1) := dk_42 (dk_at dksX5_digest_1 19 rfl rfl)
theorem dX5_digest_42 : decode cX5_digest 42 = .ok (.getfield 40, 3) := dk_180 0 40 (dk_at dksX5_digest_1 20 rfl rfl)
theorem dX5_digest_45 : decode cX5_digest 45 = .ok (.iconst 0, 1) := dk_3 (dk_at dksX5_digest_1 23 rfl rfl)
theorem dX5_digest_46 : decode cX5_digest 46 = .ok (.iaload, 1) := dk_46 (dk_at dksX5_digest_2 0 rfl rfl)
theorem dX5_digest_47 : decode cX5_digest 47 = .ok (.iastore, 1) := dk_79 (dk_at dksX5_digest_2 1 rfl rfl)
theorem dX5_digest_48 : decode cX5_digest 48 = .ok (.dup, 1) := dk_89 (dk_at dksX5_digest_2 2 rfl rfl)
theorem dX5_digest_49 : decode cX5_digest 49 = .ok (.iconst 4, 1) := dk_7 (dk_at dksX5_digest_2 3 rfl rfl)
theorem dX5_digest_50 : decode cX5_digest 50 = .ok (.aload_n 0, 1) := dk_42 (dk_at dksX5_digest_2 4 rfl rfl)
theorem dX5_digest_51 : decode cX5_digest 51 = .ok (.getfield 40, 3) := dk_180 0 40 (dk_at dksX5_digest_2 5 rfl rfl)
theorem dX5_digest_54 : decode cX5_digest 54 = .ok (.iconst 1, 1) := dk_4 (dk_at dksX5_digest_2 8 rfl rfl)
theorem dX5_digest_55 : decode cX5_digest 55 = .ok (.iaload, 1) := dk_46 (dk_at dksX5_digest_2 9 rfl rfl)
theorem dX5_digest_56 : decode cX5_digest 56 = .ok (.iastore, 1) := dk_79 (dk_at dksX5_digest_2 10 rfl rfl)
theorem dX5_digest_57 : decode cX5_digest 57 = .ok (.dup, 1) := dk_89 (dk_at dksX5_digest_2 11 rfl rfl)
theorem dX5_digest_58 : decode cX5_digest 58 = .ok (.iconst 5, 1) := dk_8 (dk_at dksX5_digest_2 12 rfl rfl)
theorem dX5_digest_59 : decode cX5_digest 59 = .ok (.aload_n 0, 1) := dk_42 (dk_at dksX5_digest_2 13 rfl rfl)
theorem dX5_digest_60 : decode cX5_digest 60 = .ok (.getfield 40, 3) := dk_180 0 40 (dk_at dksX5_digest_2 14 rfl rfl)
theorem dX5_digest_63 : decode cX5_digest 63 = .ok (.iconst 2, 1) := dk_5 (dk_at dksX5_digest_2 17 rfl rfl)
theorem dX5_digest_64 : decode cX5_digest 64 = .ok (.iaload, 1) := dk_46 (dk_at dksX5_digest_2 18 rfl rfl)
theorem dX5_digest_65 : decode cX5_digest 65 = .ok (.iastore, 1) := dk_79 (dk_at dksX5_digest_2 19 rfl rfl)
theorem dX5_digest_66 : decode cX5_digest 66 = .ok (.dup, 1) := dk_89 (dk_at dksX5_digest_2 20 rfl rfl)
theorem dX5_digest_67 : decode cX5_digest 67 = .ok (.bipush 6, 2) := dk_16 6 (dk_at dksX5_digest_2 21 rfl rfl)
theorem dX5_digest_69 : decode cX5_digest 69 = .ok (.aload_n 0, 1) := dk_42 (dk_at dksX5_digest_2 23 rfl rfl)
theorem dX5_digest_70 : decode cX5_digest 70 = .ok (.getfield 40, 3) := dk_180 0 40 (dk_at dksX5_digest_3 0 rfl rfl)
theorem dX5_digest_73 : decode cX5_digest 73 = .ok (.iconst 3, 1) := dk_6 (dk_at dksX5_digest_3 3 rfl rfl)
theorem dX5_digest_74 : decode cX5_digest 74 = .ok (.iaload, 1) := dk_46 (dk_at dksX5_digest_3 4 rfl rfl)
theorem dX5_digest_75 : decode cX5_digest 75 = .ok (.iastore, 1) := dk_79 (dk_at dksX5_digest_3 5 rfl rfl)
theorem dX5_digest_76 : decode cX5_digest 76 = .ok (.dup, 1) := dk_89 (dk_at dksX5_digest_3 6 rfl rfl)
theorem dX5_digest_77 : decode cX5_digest 77 = .ok (.bipush 7, 2) := dk_16 7 (dk_at dksX5_digest_3 7 rfl rfl)
theorem dX5_digest_79 : decode cX5_digest 79 = .ok (.aload_n 0, 1) := dk_42 (dk_at dksX5_digest_3 9 rfl rfl)
theorem dX5_digest_80 : decode cX5_digest 80 = .ok (.iconst 1, 1) := dk_4 (dk_at dksX5_digest_3 10 rfl rfl)
theorem dX5_digest_81 : decode cX5_digest 81 = .ok (.invokevirtual 164, 3) := dk_182 0 164 (dk_at dksX5_digest_3 11 rfl rfl)
theorem dX5_digest_84 : decode cX5_digest 84 = .ok (.iastore, 1) := dk_79 (dk_at dksX5_digest_3 14 rfl rfl)
theorem dX5_digest_85 : decode cX5_digest 85 = .ok (.dup, 1) := dk_89 (dk_at dksX5_digest_3 15 rfl rfl)
theorem dX5_digest_86 : decode cX5_digest 86 = .ok (.bipush 8, 2) := dk_16 8 (dk_at dksX5_digest_3 16 rfl rfl)
theorem dX5_digest_88 : decode cX5_digest 88 = .ok (.aload_n 0, 1) := dk_42 (dk_at dksX5_digest_3 18 rfl rfl)
theorem dX5_digest_89 : decode cX5_digest 89 = .ok (.iconst 2, 1) := dk_5 (dk_at dksX5_digest_3 19 rfl rfl)
theorem dX5_digest_90 : decode cX5_digest 90 = .ok (.invokevirtual 164, 3) := dk_182 0 164 (dk_at dksX5_digest_3 20 rfl rfl)
theorem dX5_digest_93 : decode cX5_digest 93 = .ok (.iastore, 1) := dk_79 (dk_at dksX5_digest_3 23 rfl rfl)
theorem dX5_digest_94 : decode cX5_digest 94 = .ok (.dup, 1) := dk_89 (dk_at dksX5_digest_4 0 rfl rfl)
theorem dX5_digest_95 : decode cX5_digest 95 = .ok (.bipush 9, 2) := dk_16 9 (dk_at dksX5_digest_4 1 rfl rfl)
theorem dX5_digest_97 : decode cX5_digest 97 = .ok (.aload_n 0, 1) := dk_42 (dk_at dksX5_digest_4 3 rfl rfl)
theorem dX5_digest_98 : decode cX5_digest 98 = .ok (.invokevirtual 441, 3) := dk_182 1 185 (dk_at dksX5_digest_4 4 rfl rfl)
theorem dX5_digest_101 : decode cX5_digest 101 = .ok (.iastore, 1) := dk_79 (dk_at dksX5_digest_4 7 rfl rfl)
theorem dX5_digest_102 : decode cX5_digest 102 = .ok (.astore_n 1, 1) := dk_76 (dk_at dksX5_digest_4 8 rfl rfl)
theorem dX5_digest_103 : decode cX5_digest 103 = .ok (.ldc2_w 444, 3) := dk_20 1 188 (dk_at dksX5_digest_4 9 rfl rfl)
theorem dX5_digest_106 : decode cX5_digest 106 = .ok (.lstore_n 2, 1) := dk_65 (dk_at dksX5_digest_4 12 rfl rfl)
theorem dX5_digest_107 : decode cX5_digest 107 = .ok (.aload_n 1, 1) := dk_43 (dk_at dksX5_digest_4 13 rfl rfl)
theorem dX5_digest_108 : decode cX5_digest 108 = .ok (.astore 4, 2) := dk_58 4 (dk_at dksX5_digest_4 14 rfl rfl)
theorem dX5_digest_110 : decode cX5_digest 110 = .ok (.aload 4, 2) := dk_25 4 (dk_at dksX5_digest_4 16 rfl rfl)
theorem dX5_digest_112 : decode cX5_digest 112 = .ok (.arraylength, 1) := dk_190 (dk_at dksX5_digest_4 18 rfl rfl)
theorem dX5_digest_113 : decode cX5_digest 113 = .ok (.istore 5, 2) := dk_54 5 (dk_at dksX5_digest_4 19 rfl rfl)
theorem dX5_digest_115 : decode cX5_digest 115 = .ok (.iconst 0, 1) := dk_3 (dk_at dksX5_digest_4 21 rfl rfl)
theorem dX5_digest_116 : decode cX5_digest 116 = .ok (.istore 6, 2) := dk_54 6 (dk_at dksX5_digest_4 22 rfl rfl)
theorem dX5_digest_118 : decode cX5_digest 118 = .ok (.iload 6, 2) := dk_21 6 (dk_at dksX5_digest_5 0 rfl rfl)
theorem dX5_digest_120 : decode cX5_digest 120 = .ok (.iload 5, 2) := dk_21 5 (dk_at dksX5_digest_5 2 rfl rfl)
theorem dX5_digest_122 : decode cX5_digest 122 = .ok (.if_icmp .ge 26, 3) := dk_162 0 26 (dk_at dksX5_digest_5 4 rfl rfl)
theorem dX5_digest_125 : decode cX5_digest 125 = .ok (.aload 4, 2) := dk_25 4 (dk_at dksX5_digest_5 7 rfl rfl)
theorem dX5_digest_127 : decode cX5_digest 127 = .ok (.iload 6, 2) := dk_21 6 (dk_at dksX5_digest_5 9 rfl rfl)
theorem dX5_digest_129 : decode cX5_digest 129 = .ok (.iaload, 1) := dk_46 (dk_at dksX5_digest_5 11 rfl rfl)
theorem dX5_digest_130 : decode cX5_digest 130 = .ok (.istore 7, 2) := dk_54 7 (dk_at dksX5_digest_5 12 rfl rfl)
theorem dX5_digest_132 : decode cX5_digest 132 = .ok (.lload_n 2, 1) := dk_32 (dk_at dksX5_digest_5 14 rfl rfl)
theorem dX5_digest_133 : decode cX5_digest 133 = .ok (.ldc2_w 446, 3) := dk_20 1 190 (dk_at dksX5_digest_5 15 rfl rfl)
theorem dX5_digest_136 : decode cX5_digest 136 = .ok (.lmul, 1) := dk_105 (dk_at dksX5_digest_5 18 rfl rfl)
theorem dX5_digest_137 : decode cX5_digest 137 = .ok (.iload 7, 2) := dk_21 7 (dk_at dksX5_digest_5 19 rfl rfl)
theorem dX5_digest_139 : decode cX5_digest 139 = .ok (.i2l, 1) := dk_133 (dk_at dksX5_digest_5 21 rfl rfl)
theorem dX5_digest_140 : decode cX5_digest 140 = .ok (.ladd, 1) := dk_97 (dk_at dksX5_digest_5 22 rfl rfl)
theorem dX5_digest_141 : decode cX5_digest 141 = .ok (.lstore_n 2, 1) := dk_65 (dk_at dksX5_digest_5 23 rfl rfl)
theorem dX5_digest_142 : decode cX5_digest 142 = .ok (.iinc 6 1, 3) := dk_132 6 1 (dk_at dksX5_digest_6 0 rfl rfl)
theorem dX5_digest_145 : decode cX5_digest 145 = .ok (.goto (-27), 3) := dk_167 255 229 (dk_at dksX5_digest_6 3 rfl rfl)
theorem dX5_digest_148 : decode cX5_digest 148 = .ok (.iconst 0, 1) := dk_3 (dk_at dksX5_digest_6 6 rfl rfl)
theorem dX5_digest_149 : decode cX5_digest 149 = .ok (.istore 4, 2) := dk_54 4 (dk_at dksX5_digest_6 7 rfl rfl)
theorem dX5_digest_151 : decode cX5_digest 151 = .ok (.iload 4, 2) := dk_21 4 (dk_at dksX5_digest_6 9 rfl rfl)
theorem dX5_digest_153 : decode cX5_digest 153 = .ok (.aload_n 0, 1) := dk_42 (dk_at dksX5_digest_6 11 rfl rfl)
theorem dX5_digest_154 : decode cX5_digest 154 = .ok (.getfield 20, 3) := dk_180 0 20 (dk_at dksX5_digest_6 12 rfl rfl)
theorem dX5_digest_157 : decode cX5_digest 157 = .ok (.getfield 52, 3) := dk_180 0 52 (dk_at dksX5_digest_6 15 rfl rfl)
theorem dX5_digest_160 : decode cX5_digest 160 = .ok (.if_icmp .ge 78, 3) := dk_162 0 78 (dk_at dksX5_digest_6 18 rfl rfl)
theorem dX5_digest_163 : decode cX5_digest 163 = .ok (.lload_n 2, 1) := dk_32 (dk_at dksX5_digest_6 21 rfl rfl)
theorem dX5_digest_164 : decode cX5_digest 164 = .ok (.ldc2_w 446, 3) := dk_20 1 190 (dk_at dksX5_digest_7 0 rfl rfl)
theorem dX5_digest_167 : decode cX5_digest 167 = .ok (.lmul, 1) := dk_105 (dk_at dksX5_digest_7 3 rfl rfl)
theorem dX5_digest_168 : decode cX5_digest 168 = .ok (.aload_n 0, 1) := dk_42 (dk_at dksX5_digest_7 4 rfl rfl)
theorem dX5_digest_169 : decode cX5_digest 169 = .ok (.iload 4, 2) := dk_21 4 (dk_at dksX5_digest_7 5 rfl rfl)
theorem dX5_digest_171 : decode cX5_digest 171 = .ok (.invokevirtual 74, 3) := dk_182 0 74 (dk_at dksX5_digest_7 7 rfl rfl)
theorem dX5_digest_174 : decode cX5_digest 174 = .ok (.i2l, 1) := dk_133 (dk_at dksX5_digest_7 10 rfl rfl)
theorem dX5_digest_175 : decode cX5_digest 175 = .ok (.ladd, 1) := dk_97 (dk_at dksX5_digest_7 11 rfl rfl)
theorem dX5_digest_176 : decode cX5_digest 176 = .ok (.ldc2_w 446, 3) := dk_20 1 190 (dk_at dksX5_digest_7 12 rfl rfl)
theorem dX5_digest_179 : decode cX5_digest 179 = .ok (.lmul, 1) := dk_105 (dk_at dksX5_digest_7 15 rfl rfl)
theorem dX5_digest_180 : decode cX5_digest 180 = .ok (.aload_n 0, 1) := dk_42 (dk_at dksX5_digest_7 16 rfl rfl)
theorem dX5_digest_181 : decode cX5_digest 181 = .ok (.iload 4, 2) := dk_21 4 (dk_at dksX5_digest_7 17 rfl rfl)
theorem dX5_digest_183 : decode cX5_digest 183 = .ok (.invokevirtual 82, 3) := dk_182 0 82 (dk_at dksX5_digest_7 19 rfl rfl)
theorem dX5_digest_186 : decode cX5_digest 186 = .ok (.invokestatic 106, 3) := dk_184 0 106 (dk_at dksX5_digest_8 0 rfl rfl)
theorem dX5_digest_189 : decode cX5_digest 189 = .ok (.i2l, 1) := dk_133 (dk_at dksX5_digest_8 3 rfl rfl)
theorem dX5_digest_190 : decode cX5_digest 190 = .ok (.ladd, 1) := dk_97 (dk_at dksX5_digest_8 4 rfl rfl)
theorem dX5_digest_191 : decode cX5_digest 191 = .ok (.ldc2_w 446, 3) := dk_20 1 190 (dk_at dksX5_digest_8 5 rfl rfl)
theorem dX5_digest_194 : decode cX5_digest 194 = .ok (.lmul, 1) := dk_105 (dk_at dksX5_digest_8 8 rfl rfl)
theorem dX5_digest_195 : decode cX5_digest 195 = .ok (.aload_n 0, 1) := dk_42 (dk_at dksX5_digest_8 9 rfl rfl)
theorem dX5_digest_196 : decode cX5_digest 196 = .ok (.iload 4, 2) := dk_21 4 (dk_at dksX5_digest_8 10 rfl rfl)
theorem dX5_digest_198 : decode cX5_digest 198 = .ok (.invokevirtual 410, 3) := dk_182 1 154 (dk_at dksX5_digest_8 12 rfl rfl)
theorem dX5_digest_201 : decode cX5_digest 201 = .ok (.i2l, 1) := dk_133 (dk_at dksX5_digest_8 15 rfl rfl)
theorem dX5_digest_202 : decode cX5_digest 202 = .ok (.ladd, 1) := dk_97 (dk_at dksX5_digest_8 16 rfl rfl)
theorem dX5_digest_203 : decode cX5_digest 203 = .ok (.ldc2_w 446, 3) := dk_20 1 190 (dk_at dksX5_digest_8 17 rfl rfl)
theorem dX5_digest_206 : decode cX5_digest 206 = .ok (.lmul, 1) := dk_105 (dk_at dksX5_digest_8 20 rfl rfl)
theorem dX5_digest_207 : decode cX5_digest 207 = .ok (.aload_n 0, 1) := dk_42 (dk_at dksX5_digest_8 21 rfl rfl)
theorem dX5_digest_208 : decode cX5_digest 208 = .ok (.iload 4, 2) := dk_21 4 (dk_at dksX5_digest_8 22 rfl rfl)
theorem dX5_digest_210 : decode cX5_digest 210 = .ok (.invokevirtual 74, 3) := dk_182 0 74 (dk_at dksX5_digest_9 0 rfl rfl)
theorem dX5_digest_213 : decode cX5_digest 213 = .ok (.ifCond .ne 7, 3) := dk_154 0 7 (dk_at dksX5_digest_9 3 rfl rfl)
theorem dX5_digest_216 : decode cX5_digest 216 = .ok (.iconst (-1), 1) := dk_2 (dk_at dksX5_digest_9 6 rfl rfl)
theorem dX5_digest_217 : decode cX5_digest 217 = .ok (.goto 12, 3) := dk_167 0 12 (dk_at dksX5_digest_9 7 rfl rfl)
theorem dX5_digest_220 : decode cX5_digest 220 = .ok (.aload_n 0, 1) := dk_42 (dk_at dksX5_digest_9 10 rfl rfl)
theorem dX5_digest_221 : decode cX5_digest 221 = .ok (.iload 4, 2) := dk_21 4 (dk_at dksX5_digest_9 11 rfl rfl)
theorem dX5_digest_223 : decode cX5_digest 223 = .ok (.invokevirtual 89, 3) := dk_182 0 89 (dk_at dksX5_digest_9 13 rfl rfl)
theorem dX5_digest_226 : decode cX5_digest 226 = .ok (.bipush 10, 2) := dk_16 10 (dk_at dksX5_digest_9 16 rfl rfl)
theorem dX5_digest_228 : decode cX5_digest 228 = .ok (.irem, 1) := dk_112 (dk_at dksX5_digest_9 18 rfl rfl)
theorem dX5_digest_229 : decode cX5_digest 229 = .ok (.i2l, 1) := dk_133 (dk_at dksX5_digest_9 19 rfl rfl)
theorem dX5_digest_230 : decode cX5_digest 230 = .ok (.ladd, 1) := dk_97 (dk_at dksX5_digest_9 20 rfl rfl)
theorem dX5_digest_231 : decode cX5_digest 231 = .ok (.lstore_n 2, 1) := dk_65 (dk_at dksX5_digest_9 21 rfl rfl)
theorem dX5_digest_232 : decode cX5_digest 232 = .ok (.iinc 4 1, 3) := dk_132 4 1 (dk_at dksX5_digest_10 0 rfl rfl)
theorem dX5_digest_235 : decode cX5_digest 235 = .ok (.goto (-84), 3) := dk_167 255 172 (dk_at dksX5_digest_10 3 rfl rfl)
theorem dX5_digest_238 : decode cX5_digest 238 = .ok (.iconst 0, 1) := dk_3 (dk_at dksX5_digest_10 6 rfl rfl)
theorem dX5_digest_239 : decode cX5_digest 239 = .ok (.istore 4, 2) := dk_54 4 (dk_at dksX5_digest_10 7 rfl rfl)
theorem dX5_digest_241 : decode cX5_digest 241 = .ok (.iload 4, 2) := dk_21 4 (dk_at dksX5_digest_10 9 rfl rfl)
theorem dX5_digest_243 : decode cX5_digest 243 = .ok (.aload_n 0, 1) := dk_42 (dk_at dksX5_digest_10 11 rfl rfl)
theorem dX5_digest_244 : decode cX5_digest 244 = .ok (.getfield 20, 3) := dk_180 0 20 (dk_at dksX5_digest_10 12 rfl rfl)
theorem dX5_digest_247 : decode cX5_digest 247 = .ok (.getfield 65, 3) := dk_180 0 65 (dk_at dksX5_digest_10 15 rfl rfl)
theorem dX5_digest_250 : decode cX5_digest 250 = .ok (.if_icmp .ge 54, 3) := dk_162 0 54 (dk_at dksX5_digest_10 18 rfl rfl)
theorem dX5_digest_253 : decode cX5_digest 253 = .ok (.lload_n 2, 1) := dk_32 (dk_at dksX5_digest_10 21 rfl rfl)
theorem dX5_digest_254 : decode cX5_digest 254 = .ok (.ldc2_w 446, 3) := dk_20 1 190 (dk_at dksX5_digest_11 0 rfl rfl)
theorem dX5_digest_257 : decode cX5_digest 257 = .ok (.lmul, 1) := dk_105 (dk_at dksX5_digest_11 3 rfl rfl)
theorem dX5_digest_258 : decode cX5_digest 258 = .ok (.aload_n 0, 1) := dk_42 (dk_at dksX5_digest_11 4 rfl rfl)
theorem dX5_digest_259 : decode cX5_digest 259 = .ok (.getfield 40, 3) := dk_180 0 40 (dk_at dksX5_digest_11 5 rfl rfl)
theorem dX5_digest_262 : decode cX5_digest 262 = .ok (.sipush 173, 3) := dk_17 0 173 (dk_at dksX5_digest_11 8 rfl rfl)
theorem dX5_digest_265 : decode cX5_digest 265 = .ok (.iload 4, 2) := dk_21 4 (dk_at dksX5_digest_11 11 rfl rfl)
theorem dX5_digest_267 : decode cX5_digest 267 = .ok (.iadd, 1) := dk_96 (dk_at dksX5_digest_11 13 rfl rfl)
theorem dX5_digest_268 : decode cX5_digest 268 = .ok (.iaload, 1) := dk_46 (dk_at dksX5_digest_11 14 rfl rfl)
theorem dX5_digest_269 : decode cX5_digest 269 = .ok (.ifCond .le 7, 3) := dk_158 0 7 (dk_at dksX5_digest_11 15 rfl rfl)
theorem dX5_digest_272 : decode cX5_digest 272 = .ok (.iconst 1, 1) := dk_4 (dk_at dksX5_digest_11 18 rfl rfl)
theorem dX5_digest_273 : decode cX5_digest 273 = .ok (.goto 4, 3) := dk_167 0 4 (dk_at dksX5_digest_11 19 rfl rfl)
theorem dX5_digest_276 : decode cX5_digest 276 = .ok (.iconst 0, 1) := dk_3 (dk_at dksX5_digest_11 22 rfl rfl)
theorem dX5_digest_277 : decode cX5_digest 277 = .ok (.invokestatic 106, 3) := dk_184 0 106 (dk_at dksX5_digest_12 0 rfl rfl)
theorem dX5_digest_280 : decode cX5_digest 280 = .ok (.i2l, 1) := dk_133 (dk_at dksX5_digest_12 3 rfl rfl)
theorem dX5_digest_281 : decode cX5_digest 281 = .ok (.ladd, 1) := dk_97 (dk_at dksX5_digest_12 4 rfl rfl)
theorem dX5_digest_282 : decode cX5_digest 282 = .ok (.ldc2_w 446, 3) := dk_20 1 190 (dk_at dksX5_digest_12 5 rfl rfl)
theorem dX5_digest_285 : decode cX5_digest 285 = .ok (.lmul, 1) := dk_105 (dk_at dksX5_digest_12 8 rfl rfl)
theorem dX5_digest_286 : decode cX5_digest 286 = .ok (.aload_n 0, 1) := dk_42 (dk_at dksX5_digest_12 9 rfl rfl)
theorem dX5_digest_287 : decode cX5_digest 287 = .ok (.iload 4, 2) := dk_21 4 (dk_at dksX5_digest_12 10 rfl rfl)
theorem dX5_digest_289 : decode cX5_digest 289 = .ok (.invokevirtual 113, 3) := dk_182 0 113 (dk_at dksX5_digest_12 12 rfl rfl)
theorem dX5_digest_292 : decode cX5_digest 292 = .ok (.invokestatic 106, 3) := dk_184 0 106 (dk_at dksX5_digest_12 15 rfl rfl)
theorem dX5_digest_295 : decode cX5_digest 295 = .ok (.i2l, 1) := dk_133 (dk_at dksX5_digest_12 18 rfl rfl)
theorem dX5_digest_296 : decode cX5_digest 296 = .ok (.ladd, 1) := dk_97 (dk_at dksX5_digest_12 19 rfl rfl)
theorem dX5_digest_297 : decode cX5_digest 297 = .ok (.lstore_n 2, 1) := dk_65 (dk_at dksX5_digest_12 20 rfl rfl)
theorem dX5_digest_298 : decode cX5_digest 298 = .ok (.iinc 4 1, 3) := dk_132 4 1 (dk_at dksX5_digest_12 21 rfl rfl)
theorem dX5_digest_301 : decode cX5_digest 301 = .ok (.goto (-60), 3) := dk_167 255 196 (dk_at dksX5_digest_13 0 rfl rfl)
theorem dX5_digest_304 : decode cX5_digest 304 = .ok (.iconst 0, 1) := dk_3 (dk_at dksX5_digest_13 3 rfl rfl)
theorem dX5_digest_305 : decode cX5_digest 305 = .ok (.istore 4, 2) := dk_54 4 (dk_at dksX5_digest_13 4 rfl rfl)
theorem dX5_digest_307 : decode cX5_digest 307 = .ok (.iload 4, 2) := dk_21 4 (dk_at dksX5_digest_13 6 rfl rfl)
theorem dX5_digest_309 : decode cX5_digest 309 = .ok (.aload_n 0, 1) := dk_42 (dk_at dksX5_digest_13 8 rfl rfl)
theorem dX5_digest_310 : decode cX5_digest 310 = .ok (.getfield 20, 3) := dk_180 0 20 (dk_at dksX5_digest_13 9 rfl rfl)
theorem dX5_digest_313 : decode cX5_digest 313 = .ok (.getfield 55, 3) := dk_180 0 55 (dk_at dksX5_digest_13 12 rfl rfl)
theorem dX5_digest_316 : decode cX5_digest 316 = .ok (.if_icmp .ge 38, 3) := dk_162 0 38 (dk_at dksX5_digest_13 15 rfl rfl)
theorem dX5_digest_319 : decode cX5_digest 319 = .ok (.lload_n 2, 1) := dk_32 (dk_at dksX5_digest_13 18 rfl rfl)
theorem dX5_digest_320 : decode cX5_digest 320 = .ok (.ldc2_w 446, 3) := dk_20 1 190 (dk_at dksX5_digest_13 19 rfl rfl)
theorem dX5_digest_323 : decode cX5_digest 323 = .ok (.lmul, 1) := dk_105 (dk_at dksX5_digest_13 22 rfl rfl)
theorem dX5_digest_324 : decode cX5_digest 324 = .ok (.aload_n 0, 1) := dk_42 (dk_at dksX5_digest_13 23 rfl rfl)
theorem dX5_digest_325 : decode cX5_digest 325 = .ok (.iload 4, 2) := dk_21 4 (dk_at dksX5_digest_14 0 rfl rfl)
theorem dX5_digest_327 : decode cX5_digest 327 = .ok (.invokevirtual 423, 3) := dk_182 1 167 (dk_at dksX5_digest_14 2 rfl rfl)
theorem dX5_digest_330 : decode cX5_digest 330 = .ok (.i2l, 1) := dk_133 (dk_at dksX5_digest_14 5 rfl rfl)
theorem dX5_digest_331 : decode cX5_digest 331 = .ok (.ladd, 1) := dk_97 (dk_at dksX5_digest_14 6 rfl rfl)
theorem dX5_digest_332 : decode cX5_digest 332 = .ok (.ldc2_w 446, 3) := dk_20 1 190 (dk_at dksX5_digest_14 7 rfl rfl)
theorem dX5_digest_335 : decode cX5_digest 335 = .ok (.lmul, 1) := dk_105 (dk_at dksX5_digest_14 10 rfl rfl)
theorem dX5_digest_336 : decode cX5_digest 336 = .ok (.aload_n 0, 1) := dk_42 (dk_at dksX5_digest_14 11 rfl rfl)
theorem dX5_digest_337 : decode cX5_digest 337 = .ok (.iload 4, 2) := dk_21 4 (dk_at dksX5_digest_14 12 rfl rfl)
theorem dX5_digest_339 : decode cX5_digest 339 = .ok (.invokevirtual 426, 3) := dk_182 1 170 (dk_at dksX5_digest_14 14 rfl rfl)
theorem dX5_digest_342 : decode cX5_digest 342 = .ok (.invokestatic 106, 3) := dk_184 0 106 (dk_at dksX5_digest_14 17 rfl rfl)
theorem dX5_digest_345 : decode cX5_digest 345 = .ok (.i2l, 1) := dk_133 (dk_at dksX5_digest_14 20 rfl rfl)
theorem dX5_digest_346 : decode cX5_digest 346 = .ok (.ladd, 1) := dk_97 (dk_at dksX5_digest_14 21 rfl rfl)
theorem dX5_digest_347 : decode cX5_digest 347 = .ok (.lstore_n 2, 1) := dk_65 (dk_at dksX5_digest_14 22 rfl rfl)
theorem dX5_digest_348 : decode cX5_digest 348 = .ok (.iinc 4 1, 3) := dk_132 4 1 (dk_at dksX5_digest_15 0 rfl rfl)
theorem dX5_digest_351 : decode cX5_digest 351 = .ok (.goto (-44), 3) := dk_167 255 212 (dk_at dksX5_digest_15 3 rfl rfl)
theorem dX5_digest_354 : decode cX5_digest 354 = .ok (.lload_n 2, 1) := dk_32 (dk_at dksX5_digest_15 6 rfl rfl)
theorem dX5_digest_355 : decode cX5_digest 355 = .ok (.lreturn, 1) := dk_173 (dk_at dksX5_digest_15 7 rfl rfl)
abbrev mX5_digest : sd_Y := (yX5_digest, cX5_digest, 8, some (.long), none)
def fX5_digest_b307 (G : sd_G) (k307 : Nat × Int64 × Int32 → sd_M Int64) (w0 : Nat) (w2 : Int64) (w4 : Int32) : sd_M Int64 :=
  sd_bnd (sd_getR G 4 4 w0) fun v24 =>
  sd_bnd (sd_getI G 5 1 v24) fun v25 =>
  if v25 ≤ w4 then (
    sd_ret w2)
  else (
    sd_bnd (sd_isC G 4 w0) fun _ =>
    sd_bnd (fX5_notBeforeNow G w0 w4) fun r26 =>
    sd_bnd (sd_isC G 4 w0) fun _ =>
    sd_bnd (fX5_mixed G w0 w4) fun r27 =>
    sd_bnd (fX5_one G r27) fun r28 =>
    sd_bnd (sd_ret ((((w2 * 31) + (r26.toInt64)) * 31) + (r28.toInt64))) fun x29 =>
    sd_bnd (sd_ret (w4 + 1)) fun x30 =>
    k307 (w0, x29, x30))
set_option maxHeartbeats 4000000 in
theorem sX5_digest_b307 (l : Launch) (G : sd_G) (a0 : Nat) (ρ : Int64) (h2 : sd_H) (cT : Nat × Nat) (k307 : Nat × Int64 × Int32 → sd_M Int64) (Hk307 : ∀ (q : Nat × Int64 × Int32) (h : sd_H) (c : Nat × Nat), k307 q h = some (ρ, c, h2) → sd_J mX5_digest ((l, G), (8, 180), [.ref a0], (sd_oL ρ, h2), cT) 307 [(0, .ref q.1), (2, .long q.2.1), (4, .int q.2.2)] [] h c) (w0 : Nat) (w2 : Int64) (w4 : Int32) (h : sd_H) (c : Nat × Nat) (hf : fX5_digest_b307 G k307 w0 w2 w4 h = some (ρ, c, h2)) : sd_J mX5_digest ((l, G), (8, 180), [.ref a0], (sd_oL ρ, h2), cT) 307 [(0, .ref w0), (2, .long w2), (4, .int w4)] [] h c := by
  unfold fX5_digest_b307 at hf
  refine sj_iload 2 dX5_digest_307 rfl ?_
  refine sj_aload_n 0 dX5_digest_309 rfl ?_
  refine sj_getR fdX5_20_4 hf dX5_digest_310 (fun v24 hf => ?_)
  refine sj_getI fdX5_55_5 hf dX5_digest_313 (fun v25 hf => ?_)
  refine sj_icge 354 hf dX5_digest_316 (by decide) (fun g316 hf => ?_) (fun g316 hf => ?_)
  · refine sj_lload_n 1 dX5_digest_354 rfl ?_
    exact sj_lret (o := sd_oL) hf rfl rfl rfl dX5_digest_355
  · refine sj_lload_n 1 dX5_digest_319 rfl ?_
    refine sj_ldc2 q3413 dX5_digest_320 ?_
    refine sj_lmul dX5_digest_323 ?_
    refine sj_aload_n 0 dX5_digest_324 rfl ?_
    refine sj_iload 2 dX5_digest_325 rfl ?_
    obtain ⟨fs327, he327, hf⟩ := sd_isC_some hf
    refine sj_cI (rest := [.long (w2 * 31)]) (fun _ _ _ e => sj_runV (n := 1) (As := [.int w4]) (rest := [.long (w2 * 31)]) (sX5_notBeforeNow l G w0 w4 h _ _ _ e) he327 rfl rfl rfl rfl q3278 q3280 qs97 q127 q3281 (by decide +kernel) rfl rfl ⟨Nat.le_of_ble_eq_true rfl, Nat.le_of_ble_eq_true rfl⟩ rfl (Nat.le_of_ble_eq_true rfl) dX5_digest_327) hf (fun r26 h c hf => ?_)
    refine sj_i2l dX5_digest_330 ?_
    refine sj_ladd dX5_digest_331 ?_
    refine sj_ldc2 q3413 dX5_digest_332 ?_
    refine sj_lmul dX5_digest_335 ?_
    refine sj_aload_n 0 dX5_digest_336 rfl ?_
    refine sj_iload 2 dX5_digest_337 rfl ?_
    obtain ⟨fs339, he339, hf⟩ := sd_isC_some hf
    refine sj_cI (rest := [.long (((w2 * 31) + (r26.toInt64)) * 31)]) (fun _ _ _ e => sj_runV (n := 1) (As := [.int w4]) (rest := [.long (((w2 * 31) + (r26.toInt64)) * 31)]) (sX5_mixed l G w0 w4 h _ _ _ e) he339 rfl rfl rfl rfl q3295 q3297 qs99 q127 q3298 (by decide +kernel) rfl rfl ⟨Nat.le_of_ble_eq_true rfl, Nat.le_of_ble_eq_true rfl⟩ rfl (Nat.le_of_ble_eq_true rfl) dX5_digest_339) hf (fun r27 h c hf => ?_)
    refine sj_cI (rest := [.long (((w2 * 31) + (r26.toInt64)) * 31)]) (fun _ _ _ e => sj_runS (n := 1) (rest := [.long (((w2 * 31) + (r26.toInt64)) * 31)]) (sX5_one l G r27 h _ _ _ e) rfl rfl q3153 q3154 q127 q3155 (by decide +kernel) rfl ⟨Nat.le_of_ble_eq_true rfl, Nat.le_of_ble_eq_true rfl⟩ rfl (Nat.le_of_ble_eq_true rfl) dX5_digest_342) hf (fun r28 h c hf => ?_)
    refine sj_i2l dX5_digest_345 ?_
    refine sj_ladd dX5_digest_346 ?_
    refine sj_nameL hf (fun x29 hf => ?_)
    refine sj_lstore_n [(2, .long x29), (0, .ref w0), (4, .int w4)] dX5_digest_347 (by decide) rfl ?_
    refine sj_iincN 2 (fun x30 => [(4, .int x30), (2, .long x29), (0, .ref w0)]) 1 hf dX5_digest_348 rfl (by decide) (by decide) (fun _ => rfl) (fun x30 hf => ?_)
    refine sj_goto 307 dX5_digest_351 (by decide) ?_
    exact sj_loc [2, 1, 0] rfl (Hk307 (w0, x29, x30) _ _ hf)
theorem sX5_digest_b307_loop (l : Launch) (G : sd_G) (a0 : Nat) (ρ : Int64) (h2 : sd_H) (cT : Nat × Nat) (n : Nat) : ∀ (q : Nat × Int64 × Int32) (h : sd_H) (c : Nat × Nat), sd_loop (fun k s => fX5_digest_b307 G k s.1 s.2.1 s.2.2) n q h = some (ρ, c, h2) → sd_J mX5_digest ((l, G), (8, 180), [.ref a0], (sd_oL ρ, h2), cT) 307 [(0, .ref q.1), (2, .long q.2.1), (4, .int q.2.2)] [] h c := by
  induction n with
  | zero => intro q h c hf; cases hf
  | succ n ih => intro q h c hf; exact sX5_digest_b307 l G a0 ρ h2 cT _ ih _ _ _ _ _ hf
def fX5_digest_b277 (G : sd_G) (k241 : Nat × Int64 × Int32 → sd_M Int64) (w0 : Nat) (w4 : Int32) (y0 : Int32) (y1 : Int64) : sd_M Int64 :=
  sd_bnd (fX5_one G y0) fun r33 =>
  sd_bnd (sd_isC G 4 w0) fun _ =>
  sd_bnd (fX5_sure G w0 w4) fun r34 =>
  sd_bnd (fX5_one G r34) fun r35 =>
  sd_bnd (sd_ret (((y1 + (r33.toInt64)) * 31) + (r35.toInt64))) fun x36 =>
  sd_bnd (sd_ret (w4 + 1)) fun x37 =>
  k241 (w0, x36, x37)
set_option maxHeartbeats 4000000 in
theorem sX5_digest_b277 (l : Launch) (G : sd_G) (a0 : Nat) (ρ : Int64) (h2 : sd_H) (cT : Nat × Nat) (k241 : Nat × Int64 × Int32 → sd_M Int64) (Hk241 : ∀ (q : Nat × Int64 × Int32) (h : sd_H) (c : Nat × Nat), k241 q h = some (ρ, c, h2) → sd_J mX5_digest ((l, G), (8, 180), [.ref a0], (sd_oL ρ, h2), cT) 241 [(0, .ref q.1), (2, .long q.2.1), (4, .int q.2.2)] [] h c) (w0 : Nat) (w4 : Int32) (y0 : Int32) (y1 : Int64) (h : sd_H) (c : Nat × Nat) (hf : fX5_digest_b277 G k241 w0 w4 y0 y1 h = some (ρ, c, h2)) : sd_J mX5_digest ((l, G), (8, 180), [.ref a0], (sd_oL ρ, h2), cT) 277 [(0, .ref w0), (4, .int w4)] [.int y0, .long y1] h c := by
  unfold fX5_digest_b277 at hf
  refine sj_cI (rest := [.long y1]) (fun _ _ _ e => sj_runS (n := 1) (rest := [.long y1]) (sX5_one l G y0 h _ _ _ e) rfl rfl q3153 q3154 q127 q3155 (by decide +kernel) rfl ⟨Nat.le_of_ble_eq_true rfl, Nat.le_of_ble_eq_true rfl⟩ rfl (Nat.le_of_ble_eq_true rfl) dX5_digest_277) hf (fun r33 h c hf => ?_)
  refine sj_i2l dX5_digest_280 ?_
  refine sj_ladd dX5_digest_281 ?_
  refine sj_ldc2 q3413 dX5_digest_282 ?_
  refine sj_lmul dX5_digest_285 ?_
  refine sj_aload_n 0 dX5_digest_286 rfl ?_
  refine sj_iload 1 dX5_digest_287 rfl ?_
  obtain ⟨fs289, he289, hf⟩ := sd_isC_some hf
  refine sj_cI (rest := [.long ((y1 + (r33.toInt64)) * 31)]) (fun _ _ _ e => sj_runV (n := 1) (As := [.int w4]) (rest := [.long ((y1 + (r33.toInt64)) * 31)]) (sX5_sure l G w0 w4 h _ _ _ e) he289 rfl rfl rfl rfl q3238 q3240 qs92 q127 q3241 (by decide +kernel) rfl rfl ⟨Nat.le_of_ble_eq_true rfl, Nat.le_of_ble_eq_true rfl⟩ rfl (Nat.le_of_ble_eq_true rfl) dX5_digest_289) hf (fun r34 h c hf => ?_)
  refine sj_cI (rest := [.long ((y1 + (r33.toInt64)) * 31)]) (fun _ _ _ e => sj_runS (n := 1) (rest := [.long ((y1 + (r33.toInt64)) * 31)]) (sX5_one l G r34 h _ _ _ e) rfl rfl q3153 q3154 q127 q3155 (by decide +kernel) rfl ⟨Nat.le_of_ble_eq_true rfl, Nat.le_of_ble_eq_true rfl⟩ rfl (Nat.le_of_ble_eq_true rfl) dX5_digest_292) hf (fun r35 h c hf => ?_)
  refine sj_i2l dX5_digest_295 ?_
  refine sj_ladd dX5_digest_296 ?_
  refine sj_nameL hf (fun x36 hf => ?_)
  refine sj_lstore_n [(2, .long x36), (0, .ref w0), (4, .int w4)] dX5_digest_297 (by decide) rfl ?_
  refine sj_iincN 2 (fun x37 => [(4, .int x37), (2, .long x36), (0, .ref w0)]) 1 hf dX5_digest_298 rfl (by decide) (by decide) (fun _ => rfl) (fun x37 hf => ?_)
  refine sj_goto 241 dX5_digest_301 (by decide) ?_
  exact sj_loc [2, 1, 0] rfl (Hk241 (w0, x36, x37) _ _ hf)
def fX5_digest_b241 (G : sd_G) (k241 : Nat × Int64 × Int32 → sd_M Int64) (w0 : Nat) (w2 : Int64) (w4 : Int32) : sd_M Int64 :=
  sd_bnd (sd_getR G 4 4 w0) fun v22 =>
  sd_bnd (sd_getI G 5 6 v22) fun v23 =>
  if v23 ≤ w4 then (
    sd_loop (fun k s => fX5_digest_b307 G k s.1 s.2.1 s.2.2) sd_FU (w0, w2, 0))
  else (
    sd_bnd (sd_getR G 4 15 w0) fun v31 =>
    sd_bnd (sd_aldI G 0 v31 ((173 : Int32) + w4)) fun v32 =>
    if v32 ≤ 0 then (
      fX5_digest_b277 G k241 w0 w4 0 (w2 * 31))
    else (
      fX5_digest_b277 G k241 w0 w4 1 (w2 * 31)))
set_option maxHeartbeats 4000000 in
theorem sX5_digest_b241 (l : Launch) (G : sd_G) (a0 : Nat) (ρ : Int64) (h2 : sd_H) (cT : Nat × Nat) (k241 : Nat × Int64 × Int32 → sd_M Int64) (Hk241 : ∀ (q : Nat × Int64 × Int32) (h : sd_H) (c : Nat × Nat), k241 q h = some (ρ, c, h2) → sd_J mX5_digest ((l, G), (8, 180), [.ref a0], (sd_oL ρ, h2), cT) 241 [(0, .ref q.1), (2, .long q.2.1), (4, .int q.2.2)] [] h c) (w0 : Nat) (w2 : Int64) (w4 : Int32) (h : sd_H) (c : Nat × Nat) (hf : fX5_digest_b241 G k241 w0 w2 w4 h = some (ρ, c, h2)) : sd_J mX5_digest ((l, G), (8, 180), [.ref a0], (sd_oL ρ, h2), cT) 241 [(0, .ref w0), (2, .long w2), (4, .int w4)] [] h c := by
  unfold fX5_digest_b241 at hf
  refine sj_iload 2 dX5_digest_241 rfl ?_
  refine sj_aload_n 0 dX5_digest_243 rfl ?_
  refine sj_getR fdX5_20_4 hf dX5_digest_244 (fun v22 hf => ?_)
  refine sj_getI fdX5_65_5 hf dX5_digest_247 (fun v23 hf => ?_)
  refine sj_icge 304 hf dX5_digest_250 (by decide) (fun g250 hf => ?_) (fun g250 hf => ?_)
  · refine sj_iconst (v := 0) dX5_digest_304 (by decide) ?_
    refine sj_istore [(4, .int 0), (0, .ref w0), (2, .long w2)] dX5_digest_305 (by decide) rfl ?_
    exact sj_loc [1, 2, 0] rfl (sX5_digest_b307_loop l G a0 ρ h2 cT sd_FU (w0, w2, 0) _ _ hf)
  · refine sj_lload_n 1 dX5_digest_253 rfl ?_
    refine sj_ldc2 q3413 dX5_digest_254 ?_
    refine sj_lmul dX5_digest_257 ?_
    refine sj_aload_n 0 dX5_digest_258 rfl ?_
    refine sj_getR fdX5_40_4 hf dX5_digest_259 (fun v31 hf => ?_)
    refine sj_sipush (v := 173) dX5_digest_262 (by decide) ?_
    refine sj_iload 2 dX5_digest_265 rfl ?_
    refine sj_iadd dX5_digest_267 ?_
    refine sj_iald hf dX5_digest_268 (fun v32 hf => ?_)
    refine sj_ifle 276 hf dX5_digest_269 (by decide) (fun g269 hf => ?_) (fun g269 hf => ?_)
    · refine sj_iconst (v := 0) dX5_digest_276 (by decide) ?_
      exact sj_loc [0, 2] rfl (sX5_digest_b277 l G a0 ρ h2 cT k241 Hk241 w0 w4 0 (w2 * 31) _ _ hf)
    · refine sj_iconst (v := 1) dX5_digest_272 (by decide) ?_
      refine sj_goto 277 dX5_digest_273 (by decide) ?_
      exact sj_loc [0, 2] rfl (sX5_digest_b277 l G a0 ρ h2 cT k241 Hk241 w0 w4 1 (w2 * 31) _ _ hf)
theorem sX5_digest_b241_loop (l : Launch) (G : sd_G) (a0 : Nat) (ρ : Int64) (h2 : sd_H) (cT : Nat × Nat) (n : Nat) : ∀ (q : Nat × Int64 × Int32) (h : sd_H) (c : Nat × Nat), sd_loop (fun k s => fX5_digest_b241 G k s.1 s.2.1 s.2.2) n q h = some (ρ, c, h2) → sd_J mX5_digest ((l, G), (8, 180), [.ref a0], (sd_oL ρ, h2), cT) 241 [(0, .ref q.1), (2, .long q.2.1), (4, .int q.2.2)] [] h c := by
  induction n with
  | zero => intro q h c hf; cases hf
  | succ n ih => intro q h c hf; exact sX5_digest_b241 l G a0 ρ h2 cT _ ih _ _ _ _ _ hf
def fX5_digest_b151 (G : sd_G) (k151 : Nat × Int64 × Int32 → sd_M Int64) (w0 : Nat) (w2 : Int64) (w4 : Int32) : sd_M Int64 :=
  sd_bnd (sd_getR G 4 4 w0) fun v20 =>
  sd_bnd (sd_getI G 5 0 v20) fun v21 =>
  if v21 ≤ w4 then (
    sd_loop (fun k s => fX5_digest_b241 G k s.1 s.2.1 s.2.2) sd_FU (w0, w2, 0))
  else (
    sd_bnd (sd_isC G 4 w0) fun _ =>
    sd_bnd (fX5_tall G w0 w4) fun r38 =>
    sd_bnd (sd_isC G 4 w0) fun _ =>
    sd_bnd (fX5_hasProp G w0 w4) fun r39 =>
    sd_bnd (fX5_one G r39) fun r40 =>
    sd_bnd (sd_isC G 4 w0) fun _ =>
    sd_bnd (fX5_left G w0 w4) fun r41 =>
    sd_bnd (sd_ret ((((((w2 * 31) + (r38.toInt64)) * 31) + (r40.toInt64)) * 31) + (r41.toInt64))) fun x42 =>
    sd_bnd (sd_isC G 4 w0) fun _ =>
    sd_bnd (fX5_tall G w0 w4) fun r43 =>
    if r43 = 0 then (
      sd_bnd (sd_ret ((x42 * 31) + (((-1) : Int32).toInt64))) fun x47 =>
      sd_bnd (sd_ret (w4 + 1)) fun x48 =>
      k151 (w0, x47, x48))
    else (
      sd_bnd (sd_isC G 4 w0) fun _ =>
      sd_bnd (fX5_top G w0 w4) fun r44 =>
      sd_bnd (sd_ret ((x42 * 31) + ((r44 - r44 / 10 * 10).toInt64))) fun x45 =>
      sd_bnd (sd_ret (w4 + 1)) fun x46 =>
      k151 (w0, x45, x46)))
set_option maxHeartbeats 4000000 in
theorem sX5_digest_b151 (l : Launch) (G : sd_G) (a0 : Nat) (ρ : Int64) (h2 : sd_H) (cT : Nat × Nat) (k151 : Nat × Int64 × Int32 → sd_M Int64) (Hk151 : ∀ (q : Nat × Int64 × Int32) (h : sd_H) (c : Nat × Nat), k151 q h = some (ρ, c, h2) → sd_J mX5_digest ((l, G), (8, 180), [.ref a0], (sd_oL ρ, h2), cT) 151 [(0, .ref q.1), (2, .long q.2.1), (4, .int q.2.2)] [] h c) (w0 : Nat) (w2 : Int64) (w4 : Int32) (h : sd_H) (c : Nat × Nat) (hf : fX5_digest_b151 G k151 w0 w2 w4 h = some (ρ, c, h2)) : sd_J mX5_digest ((l, G), (8, 180), [.ref a0], (sd_oL ρ, h2), cT) 151 [(0, .ref w0), (2, .long w2), (4, .int w4)] [] h c := by
  unfold fX5_digest_b151 at hf
  refine sj_iload 2 dX5_digest_151 rfl ?_
  refine sj_aload_n 0 dX5_digest_153 rfl ?_
  refine sj_getR fdX5_20_4 hf dX5_digest_154 (fun v20 hf => ?_)
  refine sj_getI fdX5_52_5 hf dX5_digest_157 (fun v21 hf => ?_)
  refine sj_icge 238 hf dX5_digest_160 (by decide) (fun g160 hf => ?_) (fun g160 hf => ?_)
  · refine sj_iconst (v := 0) dX5_digest_238 (by decide) ?_
    refine sj_istore [(4, .int 0), (0, .ref w0), (2, .long w2)] dX5_digest_239 (by decide) rfl ?_
    exact sj_loc [1, 2, 0] rfl (sX5_digest_b241_loop l G a0 ρ h2 cT sd_FU (w0, w2, 0) _ _ hf)
  · refine sj_lload_n 1 dX5_digest_163 rfl ?_
    refine sj_ldc2 q3413 dX5_digest_164 ?_
    refine sj_lmul dX5_digest_167 ?_
    refine sj_aload_n 0 dX5_digest_168 rfl ?_
    refine sj_iload 2 dX5_digest_169 rfl ?_
    obtain ⟨fs171, he171, hf⟩ := sd_isC_some hf
    refine sj_cI (rest := [.long (w2 * 31)]) (fun _ _ _ e => sj_runV (n := 1) (As := [.int w4]) (rest := [.long (w2 * 31)]) (sX5_tall l G w0 w4 h _ _ _ e) he171 rfl rfl rfl rfl q3178 q3180 qs85 q127 q3181 (by decide +kernel) rfl rfl ⟨Nat.le_of_ble_eq_true rfl, Nat.le_of_ble_eq_true rfl⟩ rfl (Nat.le_of_ble_eq_true rfl) dX5_digest_171) hf (fun r38 h c hf => ?_)
    refine sj_i2l dX5_digest_174 ?_
    refine sj_ladd dX5_digest_175 ?_
    refine sj_ldc2 q3413 dX5_digest_176 ?_
    refine sj_lmul dX5_digest_179 ?_
    refine sj_aload_n 0 dX5_digest_180 rfl ?_
    refine sj_iload 2 dX5_digest_181 rfl ?_
    obtain ⟨fs183, he183, hf⟩ := sd_isC_some hf
    refine sj_cI (rest := [.long (((w2 * 31) + (r38.toInt64)) * 31)]) (fun _ _ _ e => sj_runV (n := 1) (As := [.int w4]) (rest := [.long (((w2 * 31) + (r38.toInt64)) * 31)]) (sX5_hasProp l G w0 w4 h _ _ _ e) he183 rfl rfl rfl rfl q3186 q3188 qs86 q127 q3189 (by decide +kernel) rfl rfl ⟨Nat.le_of_ble_eq_true rfl, Nat.le_of_ble_eq_true rfl⟩ rfl (Nat.le_of_ble_eq_true rfl) dX5_digest_183) hf (fun r39 h c hf => ?_)
    refine sj_cI (rest := [.long (((w2 * 31) + (r38.toInt64)) * 31)]) (fun _ _ _ e => sj_runS (n := 1) (rest := [.long (((w2 * 31) + (r38.toInt64)) * 31)]) (sX5_one l G r39 h _ _ _ e) rfl rfl q3153 q3154 q127 q3155 (by decide +kernel) rfl ⟨Nat.le_of_ble_eq_true rfl, Nat.le_of_ble_eq_true rfl⟩ rfl (Nat.le_of_ble_eq_true rfl) dX5_digest_186) hf (fun r40 h c hf => ?_)
    refine sj_i2l dX5_digest_189 ?_
    refine sj_ladd dX5_digest_190 ?_
    refine sj_ldc2 q3413 dX5_digest_191 ?_
    refine sj_lmul dX5_digest_194 ?_
    refine sj_aload_n 0 dX5_digest_195 rfl ?_
    refine sj_iload 2 dX5_digest_196 rfl ?_
    obtain ⟨fs198, he198, hf⟩ := sd_isC_some hf
    refine sj_cI (rest := [.long (((((w2 * 31) + (r38.toInt64)) * 31) + (r40.toInt64)) * 31)]) (fun _ _ _ e => sj_runV (n := 1) (As := [.int w4]) (rest := [.long (((((w2 * 31) + (r38.toInt64)) * 31) + (r40.toInt64)) * 31)]) (sX5_left l G w0 w4 h _ _ _ e) he198 rfl rfl rfl rfl q3218 q3220 qs90 q127 q3221 (by decide +kernel) rfl rfl ⟨Nat.le_of_ble_eq_true rfl, Nat.le_of_ble_eq_true rfl⟩ rfl (Nat.le_of_ble_eq_true rfl) dX5_digest_198) hf (fun r41 h c hf => ?_)
    refine sj_i2l dX5_digest_201 ?_
    refine sj_ladd dX5_digest_202 ?_
    refine sj_nameL hf (fun x42 hf => ?_)
    refine sj_ldc2 q3413 dX5_digest_203 ?_
    refine sj_lmul dX5_digest_206 ?_
    refine sj_aload_n 0 dX5_digest_207 rfl ?_
    refine sj_iload 2 dX5_digest_208 rfl ?_
    obtain ⟨fs210, he210, hf⟩ := sd_isC_some hf
    refine sj_cI (rest := [.long (x42 * 31)]) (fun _ _ _ e => sj_runV (n := 1) (As := [.int w4]) (rest := [.long (x42 * 31)]) (sX5_tall l G w0 w4 h _ _ _ e) he210 rfl rfl rfl rfl q3178 q3180 qs85 q127 q3181 (by decide +kernel) rfl rfl ⟨Nat.le_of_ble_eq_true rfl, Nat.le_of_ble_eq_true rfl⟩ rfl (Nat.le_of_ble_eq_true rfl) dX5_digest_210) hf (fun r43 h c hf => ?_)
    refine sj_ifne 220 hf dX5_digest_213 (by decide) (fun g213 hf => ?_) (fun g213 hf => ?_)
    · refine sj_aload_n 0 dX5_digest_220 rfl ?_
      refine sj_iload 2 dX5_digest_221 rfl ?_
      obtain ⟨fs223, he223, hf⟩ := sd_isC_some hf
      refine sj_cI (rest := [.long (x42 * 31)]) (fun _ _ _ e => sj_runV (n := 1) (As := [.int w4]) (rest := [.long (x42 * 31)]) (sX5_top l G w0 w4 h _ _ _ e) he223 rfl rfl rfl rfl q3202 q3204 qs89 q127 q3205 (by decide +kernel) rfl rfl ⟨Nat.le_of_ble_eq_true rfl, Nat.le_of_ble_eq_true rfl⟩ rfl (Nat.le_of_ble_eq_true rfl) dX5_digest_223) hf (fun r44 h c hf => ?_)
      refine sj_bipush (v := 10) dX5_digest_226 (by decide) ?_
      refine sj_irem dX5_digest_228 (by decide) ?_
      refine sj_i2l dX5_digest_229 ?_
      refine sj_ladd dX5_digest_230 ?_
      refine sj_nameL hf (fun x45 hf => ?_)
      refine sj_lstore_n [(2, .long x45), (0, .ref w0), (4, .int w4)] dX5_digest_231 (by decide) rfl ?_
      refine sj_iincN 2 (fun x46 => [(4, .int x46), (2, .long x45), (0, .ref w0)]) 1 hf dX5_digest_232 rfl (by decide) (by decide) (fun _ => rfl) (fun x46 hf => ?_)
      refine sj_goto 151 dX5_digest_235 (by decide) ?_
      exact sj_loc [2, 1, 0] rfl (Hk151 (w0, x45, x46) _ _ hf)
    · refine sj_iconst (v := (-1)) dX5_digest_216 (by decide) ?_
      refine sj_goto 229 dX5_digest_217 (by decide) ?_
      refine sj_i2l dX5_digest_229 ?_
      refine sj_ladd dX5_digest_230 ?_
      refine sj_nameL hf (fun x47 hf => ?_)
      refine sj_lstore_n [(2, .long x47), (0, .ref w0), (4, .int w4)] dX5_digest_231 (by decide) rfl ?_
      refine sj_iincN 2 (fun x48 => [(4, .int x48), (2, .long x47), (0, .ref w0)]) 1 hf dX5_digest_232 rfl (by decide) (by decide) (fun _ => rfl) (fun x48 hf => ?_)
      refine sj_goto 151 dX5_digest_235 (by decide) ?_
      exact sj_loc [2, 1, 0] rfl (Hk151 (w0, x47, x48) _ _ hf)
theorem sX5_digest_b151_loop (l : Launch) (G : sd_G) (a0 : Nat) (ρ : Int64) (h2 : sd_H) (cT : Nat × Nat) (n : Nat) : ∀ (q : Nat × Int64 × Int32) (h : sd_H) (c : Nat × Nat), sd_loop (fun k s => fX5_digest_b151 G k s.1 s.2.1 s.2.2) n q h = some (ρ, c, h2) → sd_J mX5_digest ((l, G), (8, 180), [.ref a0], (sd_oL ρ, h2), cT) 151 [(0, .ref q.1), (2, .long q.2.1), (4, .int q.2.2)] [] h c := by
  induction n with
  | zero => intro q h c hf; cases hf
  | succ n ih => intro q h c hf; exact sX5_digest_b151 l G a0 ρ h2 cT _ ih _ _ _ _ _ hf
def fX5_digest_b118 (G : sd_G) (k118 : Nat × Int64 × Nat × Int32 × Int32 → sd_M Int64) (w0 : Nat) (w2 : Int64) (w4 : Nat) (w5 : Int32) (w6 : Int32) : sd_M Int64 :=
  if w5 ≤ w6 then (
    sd_loop (fun k s => fX5_digest_b151 G k s.1 s.2.1 s.2.2) sd_FU (w0, w2, 0))
  else (
    sd_bnd (sd_aldI G 0 w4 w6) fun v49 =>
    sd_bnd (sd_ret ((w2 * 31) + (v49.toInt64))) fun x50 =>
    sd_bnd (sd_ret (w6 + 1)) fun x51 =>
    k118 (w0, x50, w4, w5, x51))
set_option maxHeartbeats 4000000 in
theorem sX5_digest_b118 (l : Launch) (G : sd_G) (a0 : Nat) (ρ : Int64) (h2 : sd_H) (cT : Nat × Nat) (k118 : Nat × Int64 × Nat × Int32 × Int32 → sd_M Int64) (Hk118 : ∀ (q : Nat × Int64 × Nat × Int32 × Int32) (h : sd_H) (c : Nat × Nat), k118 q h = some (ρ, c, h2) → sd_J mX5_digest ((l, G), (8, 180), [.ref a0], (sd_oL ρ, h2), cT) 118 [(0, .ref q.1), (2, .long q.2.1), (4, .ref q.2.2.1), (5, .int q.2.2.2.1), (6, .int q.2.2.2.2)] [] h c) (w0 : Nat) (w2 : Int64) (w4 : Nat) (w5 : Int32) (w6 : Int32) (h : sd_H) (c : Nat × Nat) (hf : fX5_digest_b118 G k118 w0 w2 w4 w5 w6 h = some (ρ, c, h2)) : sd_J mX5_digest ((l, G), (8, 180), [.ref a0], (sd_oL ρ, h2), cT) 118 [(0, .ref w0), (2, .long w2), (4, .ref w4), (5, .int w5), (6, .int w6)] [] h c := by
  unfold fX5_digest_b118 at hf
  refine sj_iload 4 dX5_digest_118 rfl ?_
  refine sj_iload 3 dX5_digest_120 rfl ?_
  refine sj_icge 148 hf dX5_digest_122 (by decide) (fun g122 hf => ?_) (fun g122 hf => ?_)
  · refine sj_iconst (v := 0) dX5_digest_148 (by decide) ?_
    refine sj_istore [(4, .int 0), (0, .ref w0), (2, .long w2), (5, .int w5), (6, .int w6)] dX5_digest_149 (by decide) rfl ?_
    exact sj_loc [1, 2, 0] rfl (sX5_digest_b151_loop l G a0 ρ h2 cT sd_FU (w0, w2, 0) _ _ hf)
  · refine sj_aload 2 dX5_digest_125 rfl ?_
    refine sj_iload 4 dX5_digest_127 rfl ?_
    refine sj_iald hf dX5_digest_129 (fun v49 hf => ?_)
    refine sj_istore [(7, .int v49), (0, .ref w0), (2, .long w2), (4, .ref w4), (5, .int w5), (6, .int w6)] dX5_digest_130 (by decide) rfl ?_
    refine sj_lload_n 2 dX5_digest_132 rfl ?_
    refine sj_ldc2 q3413 dX5_digest_133 ?_
    refine sj_lmul dX5_digest_136 ?_
    refine sj_iload 0 dX5_digest_137 rfl ?_
    refine sj_i2l dX5_digest_139 ?_
    refine sj_ladd dX5_digest_140 ?_
    refine sj_nameL hf (fun x50 hf => ?_)
    refine sj_lstore_n [(2, .long x50), (7, .int v49), (0, .ref w0), (4, .ref w4), (5, .int w5), (6, .int w6)] dX5_digest_141 (by decide) rfl ?_
    refine sj_iincN 5 (fun x51 => [(6, .int x51), (2, .long x50), (7, .int v49), (0, .ref w0), (4, .ref w4), (5, .int w5)]) 1 hf dX5_digest_142 rfl (by decide) (by decide) (fun _ => rfl) (fun x51 hf => ?_)
    refine sj_goto 118 dX5_digest_145 (by decide) ?_
    exact sj_loc [3, 1, 4, 5, 0] rfl (Hk118 (w0, x50, w4, w5, x51) _ _ hf)
theorem sX5_digest_b118_loop (l : Launch) (G : sd_G) (a0 : Nat) (ρ : Int64) (h2 : sd_H) (cT : Nat × Nat) (n : Nat) : ∀ (q : Nat × Int64 × Nat × Int32 × Int32) (h : sd_H) (c : Nat × Nat), sd_loop (fun k s => fX5_digest_b118 G k s.1 s.2.1 s.2.2.1 s.2.2.2.1 s.2.2.2.2) n q h = some (ρ, c, h2) → sd_J mX5_digest ((l, G), (8, 180), [.ref a0], (sd_oL ρ, h2), cT) 118 [(0, .ref q.1), (2, .long q.2.1), (4, .ref q.2.2.1), (5, .int q.2.2.2.1), (6, .int q.2.2.2.2)] [] h c := by
  induction n with
  | zero => intro q h c hf; cases hf
  | succ n ih => intro q h c hf; exact sX5_digest_b118 l G a0 ρ h2 cT _ ih _ _ _ _ _ _ _ hf
def fX5_digest (G : sd_G) (a0 : Nat) : sd_M Int64 :=
  sd_bnd (sd_put 4 0 .int a0 (.int 0)) fun _ =>
  sd_bnd (sd_newI 0 10) fun o1 =>
  sd_bnd (sd_getR G 4 4 a0) fun v2 =>
  sd_bnd (sd_getI G 5 0 v2) fun v3 =>
  sd_bnd (sd_astI 0 o1 0 v3) fun _ =>
  sd_bnd (sd_getR G 4 4 a0) fun v4 =>
  sd_bnd (sd_getI G 5 1 v4) fun v5 =>
  sd_bnd (sd_astI 0 o1 1 v5) fun _ =>
  sd_bnd (sd_getR G 4 4 a0) fun v6 =>
  sd_bnd (sd_getI G 5 6 v6) fun v7 =>
  sd_bnd (sd_astI 0 o1 2 v7) fun _ =>
  sd_bnd (sd_getR G 4 15 a0) fun v8 =>
  sd_bnd (sd_aldI G 0 v8 0) fun v9 =>
  sd_bnd (sd_astI 0 o1 3 v9) fun _ =>
  sd_bnd (sd_getR G 4 15 a0) fun v10 =>
  sd_bnd (sd_aldI G 0 v10 1) fun v11 =>
  sd_bnd (sd_astI 0 o1 4 v11) fun _ =>
  sd_bnd (sd_getR G 4 15 a0) fun v12 =>
  sd_bnd (sd_aldI G 0 v12 2) fun v13 =>
  sd_bnd (sd_astI 0 o1 5 v13) fun _ =>
  sd_bnd (sd_getR G 4 15 a0) fun v14 =>
  sd_bnd (sd_aldI G 0 v14 3) fun v15 =>
  sd_bnd (sd_astI 0 o1 6 v15) fun _ =>
  sd_bnd (sd_isC G 4 a0) fun _ =>
  sd_bnd (fX5_foundNow G a0 1) fun r16 =>
  sd_bnd (sd_astI 0 o1 7 r16) fun _ =>
  sd_bnd (sd_isC G 4 a0) fun _ =>
  sd_bnd (fX5_foundNow G a0 2) fun r17 =>
  sd_bnd (sd_astI 0 o1 8 r17) fun _ =>
  sd_bnd (sd_isC G 4 a0) fun _ =>
  sd_bnd (fX5_best G a0) fun r18 =>
  sd_bnd (sd_astI 0 o1 9 r18) fun _ =>
  sd_bnd (sd_alen G o1) fun v19 =>
  sd_loop (fun k s => fX5_digest_b118 G k s.1 s.2.1 s.2.2.1 s.2.2.2.1 s.2.2.2.2) sd_FU (a0, 1021, o1, v19, 0)
set_option maxHeartbeats 4000000 in
theorem sX5_digest (l : Launch) (G : sd_G) (a0 : Nat) (h : sd_H) (ρ : Int64) (cT : Nat × Nat) (h2 : sd_H) (hf : fX5_digest G a0 h = some (ρ, cT, h2)) : sd_Met mX5_digest ((l, G), (8, 180), [.ref a0], (sd_oL ρ, h2), cT) h := by
  refine sd_entry (plainFor_of_name rfl) rfl (Nat.le_of_ble_eq_true rfl) ?_
  show sd_J mX5_digest ((l, G), (8, 180), [.ref a0], (sd_oL ρ, h2), cT) 0 [(0, .ref a0)] [] h cT
  unfold fX5_digest at hf
  refine sj_aload_n 0 dX5_digest_0 rfl ?_
  refine sj_iconst (v := 0) dX5_digest_1 (by decide) ?_
  refine sj_put (fpX5_58_4 _ _) hf dX5_digest_2 (fun h hf => ?_)
  refine sj_bipush (v := 10) dX5_digest_5 (by decide) ?_
  refine sj_newI (atype := .int) q300 rfl rfl (by decide) sd_p0 hf dX5_digest_7 (fun o1 h c hf => ?_)
  refine sj_dup dX5_digest_9 rfl ?_
  refine sj_iconst (v := 0) dX5_digest_10 (by decide) ?_
  refine sj_aload_n 0 dX5_digest_11 rfl ?_
  refine sj_getR fdX5_20_4 hf dX5_digest_12 (fun v2 hf => ?_)
  refine sj_getI fdX5_52_5 hf dX5_digest_15 (fun v3 hf => ?_)
  refine sj_iast hf dX5_digest_18 (fun h hf => ?_)
  refine sj_dup dX5_digest_19 rfl ?_
  refine sj_iconst (v := 1) dX5_digest_20 (by decide) ?_
  refine sj_aload_n 0 dX5_digest_21 rfl ?_
  refine sj_getR fdX5_20_4 hf dX5_digest_22 (fun v4 hf => ?_)
  refine sj_getI fdX5_55_5 hf dX5_digest_25 (fun v5 hf => ?_)
  refine sj_iast hf dX5_digest_28 (fun h hf => ?_)
  refine sj_dup dX5_digest_29 rfl ?_
  refine sj_iconst (v := 2) dX5_digest_30 (by decide) ?_
  refine sj_aload_n 0 dX5_digest_31 rfl ?_
  refine sj_getR fdX5_20_4 hf dX5_digest_32 (fun v6 hf => ?_)
  refine sj_getI fdX5_65_5 hf dX5_digest_35 (fun v7 hf => ?_)
  refine sj_iast hf dX5_digest_38 (fun h hf => ?_)
  refine sj_dup dX5_digest_39 rfl ?_
  refine sj_iconst (v := 3) dX5_digest_40 (by decide) ?_
  refine sj_aload_n 0 dX5_digest_41 rfl ?_
  refine sj_getR fdX5_40_4 hf dX5_digest_42 (fun v8 hf => ?_)
  refine sj_iconst (v := 0) dX5_digest_45 (by decide) ?_
  refine sj_iald hf dX5_digest_46 (fun v9 hf => ?_)
  refine sj_iast hf dX5_digest_47 (fun h hf => ?_)
  refine sj_dup dX5_digest_48 rfl ?_
  refine sj_iconst (v := 4) dX5_digest_49 (by decide) ?_
  refine sj_aload_n 0 dX5_digest_50 rfl ?_
  refine sj_getR fdX5_40_4 hf dX5_digest_51 (fun v10 hf => ?_)
  refine sj_iconst (v := 1) dX5_digest_54 (by decide) ?_
  refine sj_iald hf dX5_digest_55 (fun v11 hf => ?_)
  refine sj_iast hf dX5_digest_56 (fun h hf => ?_)
  refine sj_dup dX5_digest_57 rfl ?_
  refine sj_iconst (v := 5) dX5_digest_58 (by decide) ?_
  refine sj_aload_n 0 dX5_digest_59 rfl ?_
  refine sj_getR fdX5_40_4 hf dX5_digest_60 (fun v12 hf => ?_)
  refine sj_iconst (v := 2) dX5_digest_63 (by decide) ?_
  refine sj_iald hf dX5_digest_64 (fun v13 hf => ?_)
  refine sj_iast hf dX5_digest_65 (fun h hf => ?_)
  refine sj_dup dX5_digest_66 rfl ?_
  refine sj_bipush (v := 6) dX5_digest_67 (by decide) ?_
  refine sj_aload_n 0 dX5_digest_69 rfl ?_
  refine sj_getR fdX5_40_4 hf dX5_digest_70 (fun v14 hf => ?_)
  refine sj_iconst (v := 3) dX5_digest_73 (by decide) ?_
  refine sj_iald hf dX5_digest_74 (fun v15 hf => ?_)
  refine sj_iast hf dX5_digest_75 (fun h hf => ?_)
  refine sj_dup dX5_digest_76 rfl ?_
  refine sj_bipush (v := 7) dX5_digest_77 (by decide) ?_
  refine sj_aload_n 0 dX5_digest_79 rfl ?_
  refine sj_iconst (v := 1) dX5_digest_80 (by decide) ?_
  obtain ⟨fs81, he81, hf⟩ := sd_isC_some hf
  refine sj_cI (rest := [.int 7, .ref o1, .ref o1]) (fun _ _ _ e => sj_runV (n := 1) (As := [.int 1]) (rest := [.int 7, .ref o1, .ref o1]) (sX5_foundNow l G a0 1 h _ _ _ e) he81 rfl rfl rfl rfl q3149 q3151 qs83 q127 q3152 (by decide +kernel) rfl rfl ⟨Nat.le_of_ble_eq_true rfl, Nat.le_of_ble_eq_true rfl⟩ rfl (Nat.le_of_ble_eq_true rfl) dX5_digest_81) hf (fun r16 h c hf => ?_)
  refine sj_iast hf dX5_digest_84 (fun h hf => ?_)
  refine sj_dup dX5_digest_85 rfl ?_
  refine sj_bipush (v := 8) dX5_digest_86 (by decide) ?_
  refine sj_aload_n 0 dX5_digest_88 rfl ?_
  refine sj_iconst (v := 2) dX5_digest_89 (by decide) ?_
  obtain ⟨fs90, he90, hf⟩ := sd_isC_some hf
  refine sj_cI (rest := [.int 8, .ref o1, .ref o1]) (fun _ _ _ e => sj_runV (n := 1) (As := [.int 2]) (rest := [.int 8, .ref o1, .ref o1]) (sX5_foundNow l G a0 2 h _ _ _ e) he90 rfl rfl rfl rfl q3149 q3151 qs83 q127 q3152 (by decide +kernel) rfl rfl ⟨Nat.le_of_ble_eq_true rfl, Nat.le_of_ble_eq_true rfl⟩ rfl (Nat.le_of_ble_eq_true rfl) dX5_digest_90) hf (fun r17 h c hf => ?_)
  refine sj_iast hf dX5_digest_93 (fun h hf => ?_)
  refine sj_dup dX5_digest_94 rfl ?_
  refine sj_bipush (v := 9) dX5_digest_95 (by decide) ?_
  refine sj_aload_n 0 dX5_digest_97 rfl ?_
  obtain ⟨fs98, he98, hf⟩ := sd_isC_some hf
  refine sj_cI (rest := [.int 9, .ref o1, .ref o1]) (fun _ _ _ e => sj_runV (n := 0) (As := []) (rest := [.int 9, .ref o1, .ref o1]) (sX5_best l G a0 h _ _ _ e) he98 rfl rfl rfl rfl q3400 q3402 qs114 q127 q3403 (by decide +kernel) rfl rfl ⟨Nat.le_of_ble_eq_true rfl, Nat.le_of_ble_eq_true rfl⟩ rfl (Nat.le_of_ble_eq_true rfl) dX5_digest_98) hf (fun r18 h c hf => ?_)
  refine sj_iast hf dX5_digest_101 (fun h hf => ?_)
  refine sj_astore_n [(1, .ref o1), (0, .ref a0)] dX5_digest_102 (by decide) rfl ?_
  refine sj_ldc2 q3412 dX5_digest_103 ?_
  refine sj_lstore_n [(2, .long 1021), (1, .ref o1), (0, .ref a0)] dX5_digest_106 (by decide) rfl ?_
  refine sj_aload_n 1 dX5_digest_107 rfl ?_
  refine sj_astore [(4, .ref o1), (2, .long 1021), (1, .ref o1), (0, .ref a0)] dX5_digest_108 (by decide) rfl ?_
  refine sj_aload 0 dX5_digest_110 rfl ?_
  refine sj_alen hf dX5_digest_112 (fun v19 hf => ?_)
  refine sj_istore [(5, .int v19), (4, .ref o1), (2, .long 1021), (1, .ref o1), (0, .ref a0)] dX5_digest_113 (by decide) rfl ?_
  refine sj_iconst (v := 0) dX5_digest_115 (by decide) ?_
  refine sj_istore [(6, .int 0), (5, .int v19), (4, .ref o1), (2, .long 1021), (1, .ref o1), (0, .ref a0)] dX5_digest_116 (by decide) rfl ?_
  exact sj_loc [5, 3, 2, 1, 0] rfl (sX5_digest_b118_loop l G a0 ρ h2 cT sd_FU (a0, 1021, o1, v19, 0) _ _ hf)
