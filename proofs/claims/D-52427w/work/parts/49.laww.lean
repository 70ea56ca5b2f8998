set_option maxRecDepth 100000
theorem q677 : (Jvm.Cond.castable "java/lang/IllegalArgumentException" "java/lang/IllegalArgumentException") ∈ lw_tbl := lw_at lw_m3 82 rfl
theorem q2314 : (Jvm.Cond.codeWith ({ cls := "SofaDigLaw", name := "feed", desc := "(LSofaDig;IIIII[J)I" } : Jvm.MethodName) method_3_code (8 : Nat) (Option.some Jvm.ClassFile.FieldType.int) [((0 : Nat), (16 : Nat), (19 : Nat), (13 : Nat))]) ∈ lw_all := lw_g (lw_at lw_m10 39 rfl) rfl
theorem q2315 : (Jvm.Cond.classLink "SofaDigLaw" (13 : Nat) "java/lang/IllegalStateException") ∈ lw_all := lw_g (lw_at lw_m10 40 rfl) rfl
theorem q2316 : (Jvm.Cond.methodLink "SofaDigLaw" (7 : Nat) ({ cls := "SofaDig", name := "feed", desc := "(IIIII)I" } : Jvm.MethodName)) ∈ lw_all := lw_g (lw_at lw_m10 41 rfl) rfl
theorem q2317 : (Jvm.Cond.instanceMethod ({ cls := "SofaDig", name := "feed", desc := "(IIIII)I" } : Jvm.MethodName)) ∈ lw_all := lw_g (lw_at lw_m10 42 rfl) rfl
theorem q2318 : (Jvm.Cond.selects "SofaDig" ({ cls := "SofaDig", name := "feed", desc := "(IIIII)I" } : Jvm.MethodName) ({ cls := "SofaDig", name := "feed", desc := "(IIIII)I" } : Jvm.MethodName)) ∈ lw_all := lw_g (lw_at lw_m10 43 rfl) rfl
theorem q2325 : (Jvm.Cond.castable "java/lang/IllegalStateException" "java/lang/IllegalStateException") ∈ lw_tbl := lw_at lw_m10 50 rfl
theorem q2347 : (Jvm.Cond.codeWith ({ cls := "SofaDigLaw", name := "trim", desc := "(LSofaDig;I[J)I" } : Jvm.MethodName) method_4_code (4 : Nat) (Option.some Jvm.ClassFile.FieldType.int) [((0 : Nat), (9 : Nat), (12 : Nat), (19 : Nat))]) ∈ lw_all := lw_g (lw_at lw_m10 72 rfl) rfl
theorem q2348 : (Jvm.Cond.classLink "SofaDigLaw" (19 : Nat) "java/lang/IllegalArgumentException") ∈ lw_all := lw_g (lw_at lw_m10 73 rfl) rfl
theorem q2349 : (Jvm.Cond.methodLink "SofaDigLaw" (15 : Nat) ({ cls := "SofaDig", name := "trim", desc := "(I)I" } : Jvm.MethodName)) ∈ lw_all := lw_g (lw_at lw_m10 74 rfl) rfl
theorem q2350 : (Jvm.Cond.instanceMethod ({ cls := "SofaDig", name := "trim", desc := "(I)I" } : Jvm.MethodName)) ∈ lw_all := lw_g (lw_at lw_m10 75 rfl) rfl
theorem q2351 : (Jvm.Cond.selects "SofaDig" ({ cls := "SofaDig", name := "trim", desc := "(I)I" } : Jvm.MethodName) ({ cls := "SofaDig", name := "trim", desc := "(I)I" } : Jvm.MethodName)) ∈ lw_all := lw_g (lw_at lw_m10 76 rfl) rfl
theorem q2366 : (Jvm.Cond.codeWith ({ cls := "SofaDigLaw", name := "heightOf", desc := "(LSofaDig;I[J)I" } : Jvm.MethodName) method_5_code (4 : Nat) (Option.some Jvm.ClassFile.FieldType.int) [((0 : Nat), (9 : Nat), (12 : Nat), (24 : Nat))]) ∈ lw_all := lw_g (lw_at lw_m10 91 rfl) rfl
theorem q2367 : (Jvm.Cond.classLink "SofaDigLaw" (24 : Nat) "java/lang/IndexOutOfBoundsException") ∈ lw_all := lw_g (lw_at lw_m10 92 rfl) rfl
theorem q2386 : (Jvm.Cond.methodLink "SofaDigLaw" (21 : Nat) ({ cls := "SofaDig", name := "heightOf", desc := "(I)I" } : Jvm.MethodName)) ∈ lw_all := lw_g (lw_at lw_m10 111 rfl) rfl
theorem q2387 : (Jvm.Cond.instanceMethod ({ cls := "SofaDig", name := "heightOf", desc := "(I)I" } : Jvm.MethodName)) ∈ lw_all := lw_g (lw_at lw_m10 112 rfl) rfl
theorem q2388 : (Jvm.Cond.selects "SofaDig" ({ cls := "SofaDig", name := "heightOf", desc := "(I)I" } : Jvm.MethodName) ({ cls := "SofaDig", name := "heightOf", desc := "(I)I" } : Jvm.MethodName)) ∈ lw_all := lw_g (lw_at lw_m10 113 rfl) rfl
theorem q2399 : (Jvm.Cond.castable "java/lang/IndexOutOfBoundsException" "java/lang/IndexOutOfBoundsException") ∈ lw_tbl := lw_at lw_m10 124 rfl
theorem q2414 : (Jvm.Cond.codeWith ({ cls := "SofaDigLaw", name := "isPropped", desc := "(LSofaDig;I[J)I" } : Jvm.MethodName) method_6_code (4 : Nat) (Option.some Jvm.ClassFile.FieldType.int) [((0 : Nat), (16 : Nat), (19 : Nat), (24 : Nat))]) ∈ lw_all := lw_g (lw_at lw_m10 139 rfl) rfl
theorem q2415 : (Jvm.Cond.methodLink "SofaDigLaw" (26 : Nat) ({ cls := "SofaDig", name := "isPropped", desc := "(I)Z" } : Jvm.MethodName)) ∈ lw_all := lw_g (lw_at lw_m10 140 rfl) rfl
theorem q2421 : (Jvm.Cond.codeWith ({ cls := "SofaDigLaw", name := "topStratum", desc := "(LSofaDig;I[J)I" } : Jvm.MethodName) method_7_code (4 : Nat) (Option.some Jvm.ClassFile.FieldType.int) [((0 : Nat), (9 : Nat), (12 : Nat), (24 : Nat)), ((0 : Nat), (9 : Nat), (15 : Nat), (13 : Nat))]) ∈ lw_all := lw_g (lw_at lw_m10 146 rfl) rfl
theorem q2422 : (Jvm.Cond.methodLink "SofaDigLaw" (30 : Nat) ({ cls := "SofaDig", name := "topStratum", desc := "(I)I" } : Jvm.MethodName)) ∈ lw_all := lw_g (lw_at lw_m10 147 rfl) rfl
theorem q2423 : (Jvm.Cond.instanceMethod ({ cls := "SofaDig", name := "topStratum", desc := "(I)I" } : Jvm.MethodName)) ∈ lw_all := lw_g (lw_at lw_m10 148 rfl) rfl
theorem q2424 : (Jvm.Cond.selects "SofaDig" ({ cls := "SofaDig", name := "topStratum", desc := "(I)I" } : Jvm.MethodName) ({ cls := "SofaDig", name := "topStratum", desc := "(I)I" } : Jvm.MethodName)) ∈ lw_all := lw_g (lw_at lw_m10 149 rfl) rfl
theorem q2432 : (Jvm.Cond.codeWith ({ cls := "SofaDigLaw", name := "isTopLoose", desc := "(LSofaDig;I[J)I" } : Jvm.MethodName) method_8_code (4 : Nat) (Option.some Jvm.ClassFile.FieldType.int) [((0 : Nat), (16 : Nat), (19 : Nat), (24 : Nat)), ((0 : Nat), (16 : Nat), (22 : Nat), (13 : Nat))]) ∈ lw_all := lw_g (lw_at lw_m10 157 rfl) rfl
theorem q2433 : (Jvm.Cond.methodLink "SofaDigLaw" (33 : Nat) ({ cls := "SofaDig", name := "isTopLoose", desc := "(I)Z" } : Jvm.MethodName)) ∈ lw_all := lw_g (lw_at lw_m10 158 rfl) rfl
theorem q2434 : (Jvm.Cond.instanceMethod ({ cls := "SofaDig", name := "isTopLoose", desc := "(I)Z" } : Jvm.MethodName)) ∈ lw_all := lw_g (lw_at lw_m10 159 rfl) rfl
theorem q2435 : (Jvm.Cond.selects "SofaDig" ({ cls := "SofaDig", name := "isTopLoose", desc := "(I)Z" } : Jvm.MethodName) ({ cls := "SofaDig", name := "isTopLoose", desc := "(I)Z" } : Jvm.MethodName)) ∈ lw_all := lw_g (lw_at lw_m10 160 rfl) rfl
theorem q2439 : (Jvm.Cond.codeWith ({ cls := "SofaDigLaw", name := "hasTopSpring", desc := "(LSofaDig;I[J)I" } : Jvm.MethodName) method_9_code (4 : Nat) (Option.some Jvm.ClassFile.FieldType.int) [((0 : Nat), (16 : Nat), (19 : Nat), (24 : Nat)), ((0 : Nat), (16 : Nat), (22 : Nat), (13 : Nat))]) ∈ lw_all := lw_g (lw_at lw_m10 164 rfl) rfl
theorem q2440 : (Jvm.Cond.methodLink "SofaDigLaw" (36 : Nat) ({ cls := "SofaDig", name := "hasTopSpring", desc := "(I)Z" } : Jvm.MethodName)) ∈ lw_all := lw_g (lw_at lw_m10 165 rfl) rfl
theorem q2441 : (Jvm.Cond.instanceMethod ({ cls := "SofaDig", name := "hasTopSpring", desc := "(I)Z" } : Jvm.MethodName)) ∈ lw_all := lw_g (lw_at lw_m10 166 rfl) rfl
theorem q2442 : (Jvm.Cond.selects "SofaDig" ({ cls := "SofaDig", name := "hasTopSpring", desc := "(I)Z" } : Jvm.MethodName) ({ cls := "SofaDig", name := "hasTopSpring", desc := "(I)Z" } : Jvm.MethodName)) ∈ lw_all := lw_g (lw_at lw_m10 167 rfl) rfl
theorem q2446 : (Jvm.Cond.codeWith ({ cls := "SofaDigLaw", name := "findsLeft", desc := "(LSofaDig;I[J)I" } : Jvm.MethodName) method_10_code (4 : Nat) (Option.some Jvm.ClassFile.FieldType.int) [((0 : Nat), (9 : Nat), (12 : Nat), (24 : Nat))]) ∈ lw_all := lw_g (lw_at lw_m10 171 rfl) rfl
theorem q2447 : (Jvm.Cond.methodLink "SofaDigLaw" (39 : Nat) ({ cls := "SofaDig", name := "findsLeft", desc := "(I)I" } : Jvm.MethodName)) ∈ lw_all := lw_g (lw_at lw_m10 172 rfl) rfl
theorem q2448 : (Jvm.Cond.instanceMethod ({ cls := "SofaDig", name := "findsLeft", desc := "(I)I" } : Jvm.MethodName)) ∈ lw_all := lw_g (lw_at lw_m10 173 rfl) rfl
theorem q2449 : (Jvm.Cond.selects "SofaDig" ({ cls := "SofaDig", name := "findsLeft", desc := "(I)I" } : Jvm.MethodName) ({ cls := "SofaDig", name := "findsLeft", desc := "(I)I" } : Jvm.MethodName)) ∈ lw_all := lw_g (lw_at lw_m10 174 rfl) rfl
theorem q2453 : (Jvm.Cond.codeWith ({ cls := "SofaDigLaw", name := "isCoin", desc := "(LSofaDig;I[J)I" } : Jvm.MethodName) method_11_code (4 : Nat) (Option.some Jvm.ClassFile.FieldType.int) [((0 : Nat), (16 : Nat), (19 : Nat), (24 : Nat))]) ∈ lw_all := lw_g (lw_at lw_m10 178 rfl) rfl
theorem q2454 : (Jvm.Cond.methodLink "SofaDigLaw" (42 : Nat) ({ cls := "SofaDig", name := "isCoin", desc := "(I)Z" } : Jvm.MethodName)) ∈ lw_all := lw_g (lw_at lw_m10 179 rfl) rfl
theorem q2455 : (Jvm.Cond.instanceMethod ({ cls := "SofaDig", name := "isCoin", desc := "(I)Z" } : Jvm.MethodName)) ∈ lw_all := lw_g (lw_at lw_m10 180 rfl) rfl
theorem q2456 : (Jvm.Cond.selects "SofaDig" ({ cls := "SofaDig", name := "isCoin", desc := "(I)Z" } : Jvm.MethodName) ({ cls := "SofaDig", name := "isCoin", desc := "(I)Z" } : Jvm.MethodName)) ∈ lw_all := lw_g (lw_at lw_m10 181 rfl) rfl
theorem q2477 : (Jvm.Cond.codeWith ({ cls := "SofaDigLaw", name := "isFound", desc := "(LSofaDig;I[J)I" } : Jvm.MethodName) method_12_code (4 : Nat) (Option.some Jvm.ClassFile.FieldType.int) [((0 : Nat), (16 : Nat), (19 : Nat), (24 : Nat))]) ∈ lw_all := lw_g (lw_at lw_m10 202 rfl) rfl
theorem q2478 : (Jvm.Cond.methodLink "SofaDigLaw" (45 : Nat) ({ cls := "SofaDig", name := "isFound", desc := "(I)Z" } : Jvm.MethodName)) ∈ lw_all := lw_g (lw_at lw_m10 203 rfl) rfl
theorem q2484 : (Jvm.Cond.codeWith ({ cls := "SofaDigLaw", name := "isSure", desc := "(LSofaDig;I[J)I" } : Jvm.MethodName) method_13_code (4 : Nat) (Option.some Jvm.ClassFile.FieldType.int) [((0 : Nat), (16 : Nat), (19 : Nat), (24 : Nat)), ((0 : Nat), (16 : Nat), (22 : Nat), (13 : Nat))]) ∈ lw_all := lw_g (lw_at lw_m10 209 rfl) rfl
theorem q2485 : (Jvm.Cond.methodLink "SofaDigLaw" (48 : Nat) ({ cls := "SofaDig", name := "isSure", desc := "(I)Z" } : Jvm.MethodName)) ∈ lw_all := lw_g (lw_at lw_m10 210 rfl) rfl
theorem q2486 : (Jvm.Cond.instanceMethod ({ cls := "SofaDig", name := "isSure", desc := "(I)Z" } : Jvm.MethodName)) ∈ lw_all := lw_g (lw_at lw_m10 211 rfl) rfl
theorem q2487 : (Jvm.Cond.selects "SofaDig" ({ cls := "SofaDig", name := "isSure", desc := "(I)Z" } : Jvm.MethodName) ({ cls := "SofaDig", name := "isSure", desc := "(I)Z" } : Jvm.MethodName)) ∈ lw_all := lw_g (lw_at lw_m10 212 rfl) rfl
theorem q2492 : (Jvm.Cond.codeWith ({ cls := "SofaDigLaw", name := "stratumOf", desc := "(LSofaDig;I[J)I" } : Jvm.MethodName) method_14_code (4 : Nat) (Option.some Jvm.ClassFile.FieldType.int) [((0 : Nat), (9 : Nat), (12 : Nat), (24 : Nat))]) ∈ lw_all := lw_g (lw_at lw_m10 217 rfl) rfl
theorem q2493 : (Jvm.Cond.methodLink "SofaDigLaw" (51 : Nat) ({ cls := "SofaDig", name := "stratumOf", desc := "(I)I" } : Jvm.MethodName)) ∈ lw_all := lw_g (lw_at lw_m10 218 rfl) rfl
theorem q2494 : (Jvm.Cond.instanceMethod ({ cls := "SofaDig", name := "stratumOf", desc := "(I)I" } : Jvm.MethodName)) ∈ lw_all := lw_g (lw_at lw_m10 219 rfl) rfl
theorem q2495 : (Jvm.Cond.selects "SofaDig" ({ cls := "SofaDig", name := "stratumOf", desc := "(I)I" } : Jvm.MethodName) ({ cls := "SofaDig", name := "stratumOf", desc := "(I)I" } : Jvm.MethodName)) ∈ lw_all := lw_g (lw_at lw_m10 220 rfl) rfl
theorem q2499 : (Jvm.Cond.codeWith ({ cls := "SofaDigLaw", name := "yearOf", desc := "(LSofaDig;I[J)I" } : Jvm.MethodName) method_15_code (4 : Nat) (Option.some Jvm.ClassFile.FieldType.int) [((0 : Nat), (9 : Nat), (12 : Nat), (24 : Nat)), ((0 : Nat), (9 : Nat), (15 : Nat), (13 : Nat))]) ∈ lw_all := lw_g (lw_at lw_m10 224 rfl) rfl
theorem q2500 : (Jvm.Cond.methodLink "SofaDigLaw" (54 : Nat) ({ cls := "SofaDig", name := "yearOf", desc := "(I)I" } : Jvm.MethodName)) ∈ lw_all := lw_g (lw_at lw_m10 225 rfl) rfl
theorem q2501 : (Jvm.Cond.instanceMethod ({ cls := "SofaDig", name := "yearOf", desc := "(I)I" } : Jvm.MethodName)) ∈ lw_all := lw_g (lw_at lw_m10 226 rfl) rfl
theorem q2502 : (Jvm.Cond.selects "SofaDig" ({ cls := "SofaDig", name := "yearOf", desc := "(I)I" } : Jvm.MethodName) ({ cls := "SofaDig", name := "yearOf", desc := "(I)I" } : Jvm.MethodName)) ∈ lw_all := lw_g (lw_at lw_m10 227 rfl) rfl
theorem q2506 : (Jvm.Cond.codeWith ({ cls := "SofaDigLaw", name := "empireOf", desc := "(LSofaDig;I[J)I" } : Jvm.MethodName) method_16_code (4 : Nat) (Option.some Jvm.ClassFile.FieldType.int) [((0 : Nat), (9 : Nat), (12 : Nat), (24 : Nat)), ((0 : Nat), (9 : Nat), (15 : Nat), (13 : Nat))]) ∈ lw_all := lw_g (lw_at lw_m10 231 rfl) rfl
theorem q2507 : (Jvm.Cond.methodLink "SofaDigLaw" (57 : Nat) ({ cls := "SofaDig", name := "empireOf", desc := "(I)I" } : Jvm.MethodName)) ∈ lw_all := lw_g (lw_at lw_m10 232 rfl) rfl
theorem q2508 : (Jvm.Cond.instanceMethod ({ cls := "SofaDig", name := "empireOf", desc := "(I)I" } : Jvm.MethodName)) ∈ lw_all := lw_g (lw_at lw_m10 233 rfl) rfl
theorem q2509 : (Jvm.Cond.selects "SofaDig" ({ cls := "SofaDig", name := "empireOf", desc := "(I)I" } : Jvm.MethodName) ({ cls := "SofaDig", name := "empireOf", desc := "(I)I" } : Jvm.MethodName)) ∈ lw_all := lw_g (lw_at lw_m10 234 rfl) rfl
theorem q2513 : (Jvm.Cond.codeWith ({ cls := "SofaDigLaw", name := "buriedUnder", desc := "(LSofaDig;I[J)I" } : Jvm.MethodName) method_17_code (4 : Nat) (Option.some Jvm.ClassFile.FieldType.int) [((0 : Nat), (9 : Nat), (12 : Nat), (24 : Nat)), ((0 : Nat), (9 : Nat), (15 : Nat), (13 : Nat))]) ∈ lw_all := lw_g (lw_at lw_m10 238 rfl) rfl
theorem q2514 : (Jvm.Cond.methodLink "SofaDigLaw" (60 : Nat) ({ cls := "SofaDig", name := "buriedUnder", desc := "(I)I" } : Jvm.MethodName)) ∈ lw_all := lw_g (lw_at lw_m10 239 rfl) rfl
theorem q2515 : (Jvm.Cond.instanceMethod ({ cls := "SofaDig", name := "buriedUnder", desc := "(I)I" } : Jvm.MethodName)) ∈ lw_all := lw_g (lw_at lw_m11 0 rfl) rfl
theorem q2516 : (Jvm.Cond.selects "SofaDig" ({ cls := "SofaDig", name := "buriedUnder", desc := "(I)I" } : Jvm.MethodName) ({ cls := "SofaDig", name := "buriedUnder", desc := "(I)I" } : Jvm.MethodName)) ∈ lw_all := lw_g (lw_at lw_m11 1 rfl) rfl
theorem q2524 : (Jvm.Cond.codeWith ({ cls := "SofaDigLaw", name := "notBefore", desc := "(LSofaDig;I[J)I" } : Jvm.MethodName) method_18_code (4 : Nat) (Option.some Jvm.ClassFile.FieldType.int) [((0 : Nat), (9 : Nat), (12 : Nat), (24 : Nat))]) ∈ lw_all := lw_g (lw_at lw_m11 9 rfl) rfl
theorem q2525 : (Jvm.Cond.methodLink "SofaDigLaw" (63 : Nat) ({ cls := "SofaDig", name := "notBefore", desc := "(I)I" } : Jvm.MethodName)) ∈ lw_all := lw_g (lw_at lw_m11 10 rfl) rfl
theorem q2526 : (Jvm.Cond.instanceMethod ({ cls := "SofaDig", name := "notBefore", desc := "(I)I" } : Jvm.MethodName)) ∈ lw_all := lw_g (lw_at lw_m11 11 rfl) rfl
theorem q2527 : (Jvm.Cond.selects "SofaDig" ({ cls := "SofaDig", name := "notBefore", desc := "(I)I" } : Jvm.MethodName) ({ cls := "SofaDig", name := "notBefore", desc := "(I)I" } : Jvm.MethodName)) ∈ lw_all := lw_g (lw_at lw_m11 12 rfl) rfl
theorem q2535 : (Jvm.Cond.codeWith ({ cls := "SofaDigLaw", name := "isSeenIn", desc := "(LSofaDig;II[J)I" } : Jvm.MethodName) method_19_code (5 : Nat) (Option.some Jvm.ClassFile.FieldType.int) [((0 : Nat), (17 : Nat), (20 : Nat), (24 : Nat))]) ∈ lw_all := lw_g (lw_at lw_m11 20 rfl) rfl
theorem q2536 : (Jvm.Cond.methodLink "SofaDigLaw" (66 : Nat) ({ cls := "SofaDig", name := "isSeenIn", desc := "(II)Z" } : Jvm.MethodName)) ∈ lw_all := lw_g (lw_at lw_m11 21 rfl) rfl
theorem q2537 : (Jvm.Cond.instanceMethod ({ cls := "SofaDig", name := "isSeenIn", desc := "(II)Z" } : Jvm.MethodName)) ∈ lw_all := lw_g (lw_at lw_m11 22 rfl) rfl
theorem q2538 : (Jvm.Cond.selects "SofaDig" ({ cls := "SofaDig", name := "isSeenIn", desc := "(II)Z" } : Jvm.MethodName) ({ cls := "SofaDig", name := "isSeenIn", desc := "(II)Z" } : Jvm.MethodName)) ∈ lw_all := lw_g (lw_at lw_m11 23 rfl) rfl
theorem q2543 : (Jvm.Cond.codeWith ({ cls := "SofaDigLaw", name := "isMixed", desc := "(LSofaDig;I[J)I" } : Jvm.MethodName) method_20_code (4 : Nat) (Option.some Jvm.ClassFile.FieldType.int) [((0 : Nat), (16 : Nat), (19 : Nat), (24 : Nat))]) ∈ lw_all := lw_g (lw_at lw_m11 28 rfl) rfl
theorem q2544 : (Jvm.Cond.methodLink "SofaDigLaw" (70 : Nat) ({ cls := "SofaDig", name := "isMixed", desc := "(I)Z" } : Jvm.MethodName)) ∈ lw_all := lw_g (lw_at lw_m11 29 rfl) rfl
theorem q2545 : (Jvm.Cond.instanceMethod ({ cls := "SofaDig", name := "isMixed", desc := "(I)Z" } : Jvm.MethodName)) ∈ lw_all := lw_g (lw_at lw_m11 30 rfl) rfl
theorem q2546 : (Jvm.Cond.selects "SofaDig" ({ cls := "SofaDig", name := "isMixed", desc := "(I)Z" } : Jvm.MethodName) ({ cls := "SofaDig", name := "isMixed", desc := "(I)Z" } : Jvm.MethodName)) ∈ lw_all := lw_g (lw_at lw_m11 31 rfl) rfl
theorem q2550 : (Jvm.Cond.codeWith ({ cls := "SofaDigLaw", name := "dig", desc := "(LSofaDig;I[J)I" } : Jvm.MethodName) method_21_code (4 : Nat) (Option.some Jvm.ClassFile.FieldType.int) [((0 : Nat), (9 : Nat), (12 : Nat), (24 : Nat)), ((0 : Nat), (9 : Nat), (15 : Nat), (13 : Nat))]) ∈ lw_all := lw_g (lw_at lw_m11 35 rfl) rfl
theorem q2551 : (Jvm.Cond.methodLink "SofaDigLaw" (73 : Nat) ({ cls := "SofaDig", name := "dig", desc := "(I)I" } : Jvm.MethodName)) ∈ lw_all := lw_g (lw_at lw_m11 36 rfl) rfl
theorem q2552 : (Jvm.Cond.instanceMethod ({ cls := "SofaDig", name := "dig", desc := "(I)I" } : Jvm.MethodName)) ∈ lw_all := lw_g (lw_at lw_m11 37 rfl) rfl
theorem q2553 : (Jvm.Cond.selects "SofaDig" ({ cls := "SofaDig", name := "dig", desc := "(I)I" } : Jvm.MethodName) ({ cls := "SofaDig", name := "dig", desc := "(I)I" } : Jvm.MethodName)) ∈ lw_all := lw_g (lw_at lw_m11 38 rfl) rfl
theorem q2557 : (Jvm.Cond.codeWith ({ cls := "SofaDigLaw", name := "prop", desc := "(LSofaDig;I[J)I" } : Jvm.MethodName) method_22_code (4 : Nat) (Option.some Jvm.ClassFile.FieldType.int) [((0 : Nat), (9 : Nat), (12 : Nat), (24 : Nat)), ((0 : Nat), (9 : Nat), (15 : Nat), (13 : Nat))]) ∈ lw_all := lw_g (lw_at lw_m11 42 rfl) rfl
theorem q2558 : (Jvm.Cond.methodLink "SofaDigLaw" (76 : Nat) ({ cls := "SofaDig", name := "prop", desc := "(I)I" } : Jvm.MethodName)) ∈ lw_all := lw_g (lw_at lw_m11 43 rfl) rfl
theorem q2559 : (Jvm.Cond.instanceMethod ({ cls := "SofaDig", name := "prop", desc := "(I)I" } : Jvm.MethodName)) ∈ lw_all := lw_g (lw_at lw_m11 44 rfl) rfl
theorem q2560 : (Jvm.Cond.selects "SofaDig" ({ cls := "SofaDig", name := "prop", desc := "(I)I" } : Jvm.MethodName) ({ cls := "SofaDig", name := "prop", desc := "(I)I" } : Jvm.MethodName)) ∈ lw_all := lw_g (lw_at lw_m11 45 rfl) rfl
theorem q2569 : (Jvm.Cond.codeWith ({ cls := "SofaDigLaw", name := "takeProp", desc := "(LSofaDig;I[J)I" } : Jvm.MethodName) method_23_code (4 : Nat) (Option.some Jvm.ClassFile.FieldType.int) [((0 : Nat), (9 : Nat), (12 : Nat), (24 : Nat)), ((0 : Nat), (9 : Nat), (15 : Nat), (13 : Nat))]) ∈ lw_all := lw_g (lw_at lw_m11 54 rfl) rfl
theorem q2570 : (Jvm.Cond.methodLink "SofaDigLaw" (79 : Nat) ({ cls := "SofaDig", name := "takeProp", desc := "(I)I" } : Jvm.MethodName)) ∈ lw_all := lw_g (lw_at lw_m11 55 rfl) rfl
theorem q2571 : (Jvm.Cond.instanceMethod ({ cls := "SofaDig", name := "takeProp", desc := "(I)I" } : Jvm.MethodName)) ∈ lw_all := lw_g (lw_at lw_m11 56 rfl) rfl
theorem q2572 : (Jvm.Cond.selects "SofaDig" ({ cls := "SofaDig", name := "takeProp", desc := "(I)I" } : Jvm.MethodName) ({ cls := "SofaDig", name := "takeProp", desc := "(I)I" } : Jvm.MethodName)) ∈ lw_all := lw_g (lw_at lw_m11 57 rfl) rfl
theorem q2581 : (Jvm.Cond.codeWith ({ cls := "SofaDigLaw", name := "passDays", desc := "(LSofaDig;I[J)I" } : Jvm.MethodName) method_24_code (4 : Nat) (Option.some Jvm.ClassFile.FieldType.int) [((0 : Nat), (9 : Nat), (12 : Nat), (19 : Nat))]) ∈ lw_all := lw_g (lw_at lw_m11 66 rfl) rfl
theorem q2582 : (Jvm.Cond.methodLink "SofaDigLaw" (82 : Nat) ({ cls := "SofaDig", name := "passDays", desc := "(I)I" } : Jvm.MethodName)) ∈ lw_all := lw_g (lw_at lw_m11 67 rfl) rfl
theorem q2583 : (Jvm.Cond.instanceMethod ({ cls := "SofaDig", name := "passDays", desc := "(I)I" } : Jvm.MethodName)) ∈ lw_all := lw_g (lw_at lw_m11 68 rfl) rfl
theorem q2584 : (Jvm.Cond.selects "SofaDig" ({ cls := "SofaDig", name := "passDays", desc := "(I)I" } : Jvm.MethodName) ({ cls := "SofaDig", name := "passDays", desc := "(I)I" } : Jvm.MethodName)) ∈ lw_all := lw_g (lw_at lw_m11 69 rfl) rfl
theorem q2740 : (Jvm.Cond.codeWith ({ cls := "SofaDigLaw", name := "foundAfter", desc := "(LSofaDig;I[J)I" } : Jvm.MethodName) method_25_code (4 : Nat) (Option.some Jvm.ClassFile.FieldType.int) [((0 : Nat), (9 : Nat), (12 : Nat), (19 : Nat))]) ∈ lw_all := lw_g (lw_at lw_m11 225 rfl) rfl
theorem q2741 : (Jvm.Cond.methodLink "SofaDigLaw" (85 : Nat) ({ cls := "SofaDig", name := "foundAfter", desc := "(I)I" } : Jvm.MethodName)) ∈ lw_all := lw_g (lw_at lw_m11 226 rfl) rfl
theorem q2742 : (Jvm.Cond.instanceMethod ({ cls := "SofaDig", name := "foundAfter", desc := "(I)I" } : Jvm.MethodName)) ∈ lw_all := lw_g (lw_at lw_m11 227 rfl) rfl
theorem q2743 : (Jvm.Cond.selects "SofaDig" ({ cls := "SofaDig", name := "foundAfter", desc := "(I)I" } : Jvm.MethodName) ({ cls := "SofaDig", name := "foundAfter", desc := "(I)I" } : Jvm.MethodName)) ∈ lw_all := lw_g (lw_at lw_m11 228 rfl) rfl
theorem q2747 : (Jvm.Cond.codeWith ({ cls := "SofaDigLaw", name := "daysUntilFound", desc := "(LSofaDig;I[J)I" } : Jvm.MethodName) method_26_code (4 : Nat) (Option.some Jvm.ClassFile.FieldType.int) [((0 : Nat), (9 : Nat), (12 : Nat), (24 : Nat))]) ∈ lw_all := lw_g (lw_at lw_m11 232 rfl) rfl
theorem q2748 : (Jvm.Cond.methodLink "SofaDigLaw" (88 : Nat) ({ cls := "SofaDig", name := "daysUntilFound", desc := "(I)I" } : Jvm.MethodName)) ∈ lw_all := lw_g (lw_at lw_m11 233 rfl) rfl
theorem q2749 : (Jvm.Cond.instanceMethod ({ cls := "SofaDig", name := "daysUntilFound", desc := "(I)I" } : Jvm.MethodName)) ∈ lw_all := lw_g (lw_at lw_m11 234 rfl) rfl
theorem q2750 : (Jvm.Cond.selects "SofaDig" ({ cls := "SofaDig", name := "daysUntilFound", desc := "(I)I" } : Jvm.MethodName) ({ cls := "SofaDig", name := "daysUntilFound", desc := "(I)I" } : Jvm.MethodName)) ∈ lw_all := lw_g (lw_at lw_m11 235 rfl) rfl
theorem q2754 : (Jvm.Cond.codeWith ({ cls := "SofaDigLaw", name := "wouldSlide", desc := "(LSofaDig;I[J)I" } : Jvm.MethodName) method_27_code (4 : Nat) (Option.some Jvm.ClassFile.FieldType.int) [((0 : Nat), (9 : Nat), (12 : Nat), (24 : Nat)), ((0 : Nat), (9 : Nat), (15 : Nat), (13 : Nat))]) ∈ lw_all := lw_g (lw_at lw_m11 239 rfl) rfl
theorem q2755 : (Jvm.Cond.methodLink "SofaDigLaw" (91 : Nat) ({ cls := "SofaDig", name := "wouldSlide", desc := "(I)I" } : Jvm.MethodName)) ∈ lw_all := lw_g (lw_at lw_m12 0 rfl) rfl
theorem q2756 : (Jvm.Cond.instanceMethod ({ cls := "SofaDig", name := "wouldSlide", desc := "(I)I" } : Jvm.MethodName)) ∈ lw_all := lw_g (lw_at lw_m12 1 rfl) rfl
theorem q2757 : (Jvm.Cond.selects "SofaDig" ({ cls := "SofaDig", name := "wouldSlide", desc := "(I)I" } : Jvm.MethodName) ({ cls := "SofaDig", name := "wouldSlide", desc := "(I)I" } : Jvm.MethodName)) ∈ lw_all := lw_g (lw_at lw_m12 2 rfl) rfl
/-! SofaDigLaw.feed(LSofaDig;IIIII[J)I -/
abbrev cX0_feed : ByteArray := method_3_code
def yX0_feed : MethodName := ⟨RX0, "feed", "(LSofaDig;IIIII[J)I"⟩
def dkwX0_feed_1 : List UInt8 := [172]
abbrev dktX0_feed_1 : List UInt8 := dkwX0_feed_1 ++ []
def dkwX0_feed_0 : List UInt8 := [25, 6, 3, 42, 27, 28, 29, 21, 4, 21, 5, 182, 0, 7, 133, 80, 167, 0, 7, 58, 7, 4, 172, 3]
abbrev dktX0_feed_0 : List UInt8 := dkwX0_feed_0 ++ dktX0_feed_1
theorem dksX0_feed_0 : cX0_feed.data.toList.drop 0 = dktX0_feed_0 := by decide +kernel
theorem dksX0_feed_1 : cX0_feed.data.toList.drop 24 = dktX0_feed_1 := dk_seg dksX0_feed_0 24 rfl rfl
theorem dX0_feed_0 : decode cX0_feed 0 = .ok (.aload 6, 2) := dk_25 6 (dk_at dksX0_feed_0 0 rfl rfl)
theorem dX0_feed_2 : decode cX0_feed 2 = .ok (.iconst 0, 1) := dk_3 (dk_at dksX0_feed_0 2 rfl rfl)
theorem dX0_feed_3 : decode cX0_feed 3 = .ok (.aload_n 0, 1) := dk_42 (dk_at dksX0_feed_0 3 rfl rfl)
theorem dX0_feed_4 : decode cX0_feed 4 = .ok (.iload_n 1, 1) := dk_27 (dk_at dksX0_feed_0 4 rfl rfl)
theorem dX0_feed_5 : decode cX0_feed 5 = .ok (.iload_n 2, 1) := dk_28 (dk_at dksX0_feed_0 5 rfl rfl)
theorem dX0_feed_6 : decode cX0_feed 6 = .ok (.iload_n 3, 1) := dk_29 (dk_at dksX0_feed_0 6 rfl rfl)
theorem dX0_feed_7 : decode cX0_feed 7 = .ok (.iload 4, 2) := dk_21 4 (dk_at dksX0_feed_0 7 rfl rfl)
theorem dX0_feed_9 : decode cX0_feed 9 = .ok (.iload 5, 2) := dk_21 5 (dk_at dksX0_feed_0 9 rfl rfl)
theorem dX0_feed_11 : decode cX0_feed 11 = .ok (.invokevirtual 7, 3) := dk_182 0 7 (dk_at dksX0_feed_0 11 rfl rfl)
theorem dX0_feed_14 : decode cX0_feed 14 = .ok (.i2l, 1) := dk_133 (dk_at dksX0_feed_0 14 rfl rfl)
theorem dX0_feed_15 : decode cX0_feed 15 = .ok (.lastore, 1) := dk_80 (dk_at dksX0_feed_0 15 rfl rfl)
theorem dX0_feed_16 : decode cX0_feed 16 = .ok (.goto 7, 3) := dk_167 0 7 (dk_at dksX0_feed_0 16 rfl rfl)
theorem dX0_feed_19 : decode cX0_feed 19 = .ok (.astore 7, 2) := dk_58 7 (dk_at dksX0_feed_0 19 rfl rfl)
theorem dX0_feed_21 : decode cX0_feed 21 = .ok (.iconst 1, 1) := dk_4 (dk_at dksX0_feed_0 21 rfl rfl)
theorem dX0_feed_22 : decode cX0_feed 22 = .ok (.ireturn, 1) := dk_172 (dk_at dksX0_feed_0 22 rfl rfl)
theorem dX0_feed_23 : decode cX0_feed 23 = .ok (.iconst 0, 1) := dk_3 (dk_at dksX0_feed_0 23 rfl rfl)
theorem dX0_feed_24 : decode cX0_feed 24 = .ok (.ireturn, 1) := dk_172 (dk_at dksX0_feed_1 0 rfl rfl)
abbrev mX0_feed : sd_Y := (yX0_feed, cX0_feed, 8, some (.int), some [(0, 16, 19, 13)])
def fX0_feed (G : sd_G) (a1 : Nat) (a2 : Int32) (a3 : Int32) (a4 : Int32) (a5 : Int32) (a6 : Int32) (a7 : Nat) : sd_M Int32 :=
  sd_bnd (sd_isC G 0 a1) fun _ =>
  sd_bx (fX1_feed G a1 a2 a3 a4 a5 a6) (fun e11 =>
    sd_bnd (sd_own e11) fun k11 =>
    if k11 = 48 then (
      sd_ret 1)
    else sd_fail) fun r1 =>
  sd_bnd (sd_astL a7 0 (r1.toInt64)) fun _ =>
  sd_ret 0
set_option maxHeartbeats 4000000 in
theorem sX0_feed (l : Launch) (hl : l.stackTraces = false) (G : sd_G) (a1 : Nat) (a2 : Int32) (a3 : Int32) (a4 : Int32) (a5 : Int32) (a6 : Int32) (a7 : Nat) (h : sd_H) (ρ : Int32) (cT : Nat × Nat) (h2 : sd_H) (hf : fX0_feed G a1 a2 a3 a4 a5 a6 a7 h = some (ρ, cT, h2)) : sd_Met mX0_feed ((l, G), (8, 126), [.ref a1, .int a2, .int a3, .int a4, .int a5, .int a6, .ref a7], (sd_oI ρ, h2), cT) h := by
  refine sd_entryW rfl rfl (Nat.le_of_ble_eq_true rfl) ?_
  show sd_J mX0_feed ((l, G), (8, 126), [.ref a1, .int a2, .int a3, .int a4, .int a5, .int a6, .ref a7], (sd_oI ρ, h2), cT) 0 [(0, .ref a1), (1, .int a2), (2, .int a3), (3, .int a4), (4, .int a5), (5, .int a6), (6, .ref a7)] [] h cT
  unfold fX0_feed at hf
  refine sj_aload 6 dX0_feed_0 rfl ?_
  refine sj_iconst (v := 0) dX0_feed_2 (by decide) ?_
  refine sj_aload_n 0 dX0_feed_3 rfl ?_
  refine sj_iload_n 1 dX0_feed_4 rfl ?_
  refine sj_iload_n 2 dX0_feed_5 rfl ?_
  refine sj_iload_n 3 dX0_feed_6 rfl ?_
  refine sj_iload 4 dX0_feed_7 rfl ?_
  refine sj_iload 5 dX0_feed_9 rfl ?_
  obtain ⟨fs11, he11, hf⟩ := sd_isC_some hf
  refine sj_xI (rest := [.int 0, .ref a7]) (fun _ _ _ e => sj_runV (n := 5) (As := [.int a2, .int a3, .int a4, .int a5, .int a6]) (rest := [.int 0, .ref a7]) (sX1_feed l hl G a1 a2 a3 a4 a5 a6 h _ _ _ e) he11 rfl rfl rfl rfl q2316 q2317 q2318 q116 q2319 (by decide +kernel) rfl rfl ⟨Nat.le_of_ble_eq_true rfl, Nat.le_of_ble_eq_true rfl⟩ rfl (Nat.le_of_ble_eq_true rfl) dX0_feed_11) hf (fun e11 h c hf => ?_) (fun r1 h c hf => ?_)
  · obtain ⟨ci11, fs11, he11, hf⟩ := sd_own_some hf
    by_cases z11_48 : ci11 = 48
    · rw [if_pos z11_48] at hf; subst z11_48
      refine sj_catch (tableOf []) ({ startPc := 0, endPc := 16, handlerPc := 19, catchType := 13 }) (tableOf []) he11 rfl rfl (fun z hz => nomatch hz) (by decide) (by decide) q2315 q2325 ?_
      refine sj_astore [(7, .ref e11), (0, .ref a1), (1, .int a2), (2, .int a3), (3, .int a4), (4, .int a5), (5, .int a6), (6, .ref a7)] dX0_feed_19 (by decide) rfl ?_
      refine sj_iconst (v := 1) dX0_feed_21 (by decide) ?_
      exact sj_iret (o := sd_oI) hf rfl rfl rfl dX0_feed_22
    rw [if_neg z11_48] at hf
    cases hf
  refine sj_i2l dX0_feed_14 ?_
  refine sj_last hf dX0_feed_15 (fun h hf => ?_)
  refine sj_goto 23 dX0_feed_16 (by decide) ?_
  refine sj_iconst (v := 0) dX0_feed_23 (by decide) ?_
  exact sj_iret (o := sd_oI) hf rfl rfl rfl dX0_feed_24
/-! SofaDigLaw.trim(LSofaDig;I[J)I -/
abbrev cX0_trim : ByteArray := method_4_code
def yX0_trim : MethodName := ⟨RX0, "trim", "(LSofaDig;I[J)I"⟩
def dkwX0_trim_0 : List UInt8 := [44, 3, 42, 27, 182, 0, 15, 133, 80, 167, 0, 6, 78, 4, 172, 3, 172]
abbrev dktX0_trim_0 : List UInt8 := dkwX0_trim_0 ++ []
theorem dksX0_trim_0 : cX0_trim.data.toList.drop 0 = dktX0_trim_0 := by decide +kernel
theorem dX0_trim_0 : decode cX0_trim 0 = .ok (.aload_n 2, 1) := dk_44 (dk_at dksX0_trim_0 0 rfl rfl)
theorem dX0_trim_1 : decode cX0_trim 1 = .ok (.iconst 0, 1) := dk_3 (dk_at dksX0_trim_0 1 rfl rfl)
theorem dX0_trim_2 : decode cX0_trim 2 = .ok (.aload_n 0, 1) := dk_42 (dk_at dksX0_trim_0 2 rfl rfl)
theorem dX0_trim_3 : decode cX0_trim 3 = .ok (.iload_n 1, 1) := dk_27 (dk_at dksX0_trim_0 3 rfl rfl)
theorem dX0_trim_4 : decode cX0_trim 4 = .ok (.invokevirtual 15, 3) := dk_182 0 15 (dk_at dksX0_trim_0 4 rfl rfl)
theorem dX0_trim_7 : decode cX0_trim 7 = .ok (.i2l, 1) := dk_133 (dk_at dksX0_trim_0 7 rfl rfl)
theorem dX0_trim_8 : decode cX0_trim 8 = .ok (.lastore, 1) := dk_80 (dk_at dksX0_trim_0 8 rfl rfl)
theorem dX0_trim_9 : decode cX0_trim 9 = .ok (.goto 6, 3) := dk_167 0 6 (dk_at dksX0_trim_0 9 rfl rfl)
theorem dX0_trim_12 : decode cX0_trim 12 = .ok (.astore_n 3, 1) := dk_78 (dk_at dksX0_trim_0 12 rfl rfl)
theorem dX0_trim_13 : decode cX0_trim 13 = .ok (.iconst 1, 1) := dk_4 (dk_at dksX0_trim_0 13 rfl rfl)
theorem dX0_trim_14 : decode cX0_trim 14 = .ok (.ireturn, 1) := dk_172 (dk_at dksX0_trim_0 14 rfl rfl)
theorem dX0_trim_15 : decode cX0_trim 15 = .ok (.iconst 0, 1) := dk_3 (dk_at dksX0_trim_0 15 rfl rfl)
theorem dX0_trim_16 : decode cX0_trim 16 = .ok (.ireturn, 1) := dk_172 (dk_at dksX0_trim_0 16 rfl rfl)
abbrev mX0_trim : sd_Y := (yX0_trim, cX0_trim, 4, some (.int), some [(0, 9, 12, 19)])
def fX0_trim (G : sd_G) (a1 : Nat) (a2 : Int32) (a3 : Nat) : sd_M Int32 :=
  sd_bnd (sd_isC G 0 a1) fun _ =>
  sd_bx (fX1_trim G a1 a2) (fun e4 =>
    sd_bnd (sd_own e4) fun k4 =>
    if k4 = 49 then (
      sd_ret 1)
    else sd_fail) fun r1 =>
  sd_bnd (sd_astL a3 0 (r1.toInt64)) fun _ =>
  sd_ret 0
set_option maxHeartbeats 4000000 in
theorem sX0_trim (l : Launch) (hl : l.stackTraces = false) (G : sd_G) (a1 : Nat) (a2 : Int32) (a3 : Nat) (h : sd_H) (ρ : Int32) (cT : Nat × Nat) (h2 : sd_H) (hf : fX0_trim G a1 a2 a3 h = some (ρ, cT, h2)) : sd_Met mX0_trim ((l, G), (9, 144), [.ref a1, .int a2, .ref a3], (sd_oI ρ, h2), cT) h := by
  refine sd_entryW rfl rfl (Nat.le_of_ble_eq_true rfl) ?_
  show sd_J mX0_trim ((l, G), (9, 144), [.ref a1, .int a2, .ref a3], (sd_oI ρ, h2), cT) 0 [(0, .ref a1), (1, .int a2), (2, .ref a3)] [] h cT
  unfold fX0_trim at hf
  refine sj_aload_n 2 dX0_trim_0 rfl ?_
  refine sj_iconst (v := 0) dX0_trim_1 (by decide) ?_
  refine sj_aload_n 0 dX0_trim_2 rfl ?_
  refine sj_iload_n 1 dX0_trim_3 rfl ?_
  obtain ⟨fs4, he4, hf⟩ := sd_isC_some hf
  refine sj_xI (rest := [.int 0, .ref a3]) (fun _ _ _ e => sj_runV (n := 1) (As := [.int a2]) (rest := [.int 0, .ref a3]) (sX1_trim l hl G a1 a2 h _ _ _ e) he4 rfl rfl rfl rfl q2349 q2350 q2351 q116 q2352 (by decide +kernel) rfl rfl ⟨Nat.le_of_ble_eq_true rfl, Nat.le_of_ble_eq_true rfl⟩ rfl (Nat.le_of_ble_eq_true rfl) dX0_trim_4) hf (fun e4 h c hf => ?_) (fun r1 h c hf => ?_)
  · obtain ⟨ci4, fs4, he4, hf⟩ := sd_own_some hf
    by_cases z4_49 : ci4 = 49
    · rw [if_pos z4_49] at hf; subst z4_49
      refine sj_catch (tableOf []) ({ startPc := 0, endPc := 9, handlerPc := 12, catchType := 19 }) (tableOf []) he4 rfl rfl (fun z hz => nomatch hz) (by decide) (by decide) q2348 q677 ?_
      refine sj_astore_n [(3, .ref e4), (0, .ref a1), (1, .int a2), (2, .ref a3)] dX0_trim_12 (by decide) rfl ?_
      refine sj_iconst (v := 1) dX0_trim_13 (by decide) ?_
      exact sj_iret (o := sd_oI) hf rfl rfl rfl dX0_trim_14
    rw [if_neg z4_49] at hf
    cases hf
  refine sj_i2l dX0_trim_7 ?_
  refine sj_last hf dX0_trim_8 (fun h hf => ?_)
  refine sj_goto 15 dX0_trim_9 (by decide) ?_
  refine sj_iconst (v := 0) dX0_trim_15 (by decide) ?_
  exact sj_iret (o := sd_oI) hf rfl rfl rfl dX0_trim_16
/-! SofaDigLaw.heightOf(LSofaDig;I[J)I -/
abbrev cX0_heightOf : ByteArray := method_5_code
def yX0_heightOf : MethodName := ⟨RX0, "heightOf", "(LSofaDig;I[J)I"⟩
def dkwX0_heightOf_0 : List UInt8 := [44, 3, 42, 27, 182, 0, 21, 133, 80, 167, 0, 6, 78, 4, 172, 3, 172]
abbrev dktX0_heightOf_0 : List UInt8 := dkwX0_heightOf_0 ++ []
theorem dksX0_heightOf_0 : cX0_heightOf.data.toList.drop 0 = dktX0_heightOf_0 := by decide +kernel
theorem dX0_heightOf_0 : decode cX0_heightOf 0 = .ok (.aload_n 2, 1) := dk_44 (dk_at dksX0_heightOf_0 0 rfl rfl)
theorem dX0_heightOf_1 : decode cX0_heightOf 1 = .ok (.iconst 0, 1) := dk_3 (dk_at dksX0_heightOf_0 1 rfl rfl)
theorem dX0_heightOf_2 : decode cX0_heightOf 2 = .ok (.aload_n 0, 1) := dk_42 (dk_at dksX0_heightOf_0 2 rfl rfl)
theorem dX0_heightOf_3 : decode cX0_heightOf 3 = .ok (.iload_n 1, 1) := dk_27 (dk_at dksX0_heightOf_0 3 rfl rfl)
theorem dX0_heightOf_4 : decode cX0_heightOf 4 = .ok (.invokevirtual 21, 3) := dk_182 0 21 (dk_at dksX0_heightOf_0 4 rfl rfl)
theorem dX0_heightOf_7 : decode cX0_heightOf 7 = .ok (.i2l, 1) := dk_133 (dk_at dksX0_heightOf_0 7 rfl rfl)
theorem dX0_heightOf_8 : decode cX0_heightOf 8 = .ok (.lastore, 1) := dk_80 (dk_at dksX0_heightOf_0 8 rfl rfl)
theorem dX0_heightOf_9 : decode cX0_heightOf 9 = .ok (.goto 6, 3) := dk_167 0 6 (dk_at dksX0_heightOf_0 9 rfl rfl)
theorem dX0_heightOf_12 : decode cX0_heightOf 12 = .ok (.astore_n 3, 1) := dk_78 (dk_at dksX0_heightOf_0 12 rfl rfl)
theorem dX0_heightOf_13 : decode cX0_heightOf 13 = .ok (.iconst 1, 1) := dk_4 (dk_at dksX0_heightOf_0 13 rfl rfl)
theorem dX0_heightOf_14 : decode cX0_heightOf 14 = .ok (.ireturn, 1) := dk_172 (dk_at dksX0_heightOf_0 14 rfl rfl)
theorem dX0_heightOf_15 : decode cX0_heightOf 15 = .ok (.iconst 0, 1) := dk_3 (dk_at dksX0_heightOf_0 15 rfl rfl)
theorem dX0_heightOf_16 : decode cX0_heightOf 16 = .ok (.ireturn, 1) := dk_172 (dk_at dksX0_heightOf_0 16 rfl rfl)
abbrev mX0_heightOf : sd_Y := (yX0_heightOf, cX0_heightOf, 4, some (.int), some [(0, 9, 12, 24)])
def fX0_heightOf (G : sd_G) (a1 : Nat) (a2 : Int32) (a3 : Nat) : sd_M Int32 :=
  sd_bnd (sd_isC G 0 a1) fun _ =>
  sd_bx (fX1_heightOf G a1 a2) (fun e4 =>
    sd_bnd (sd_own e4) fun k4 =>
    if k4 = 50 then (
      sd_ret 1)
    else sd_fail) fun r1 =>
  sd_bnd (sd_astL a3 0 (r1.toInt64)) fun _ =>
  sd_ret 0
set_option maxHeartbeats 4000000 in
theorem sX0_heightOf (l : Launch) (hl : l.stackTraces = false) (G : sd_G) (a1 : Nat) (a2 : Int32) (a3 : Nat) (h : sd_H) (ρ : Int32) (cT : Nat × Nat) (h2 : sd_H) (hf : fX0_heightOf G a1 a2 a3 h = some (ρ, cT, h2)) : sd_Met mX0_heightOf ((l, G), (9, 144), [.ref a1, .int a2, .ref a3], (sd_oI ρ, h2), cT) h := by
  refine sd_entryW rfl rfl (Nat.le_of_ble_eq_true rfl) ?_
  show sd_J mX0_heightOf ((l, G), (9, 144), [.ref a1, .int a2, .ref a3], (sd_oI ρ, h2), cT) 0 [(0, .ref a1), (1, .int a2), (2, .ref a3)] [] h cT
  unfold fX0_heightOf at hf
  refine sj_aload_n 2 dX0_heightOf_0 rfl ?_
  refine sj_iconst (v := 0) dX0_heightOf_1 (by decide) ?_
  refine sj_aload_n 0 dX0_heightOf_2 rfl ?_
  refine sj_iload_n 1 dX0_heightOf_3 rfl ?_
  obtain ⟨fs4, he4, hf⟩ := sd_isC_some hf
  refine sj_xI (rest := [.int 0, .ref a3]) (fun _ _ _ e => sj_runV (n := 1) (As := [.int a2]) (rest := [.int 0, .ref a3]) (sX1_heightOf l hl G a1 a2 h _ _ _ e) he4 rfl rfl rfl rfl q2386 q2387 q2388 q116 q2389 (by decide +kernel) rfl rfl ⟨Nat.le_of_ble_eq_true rfl, Nat.le_of_ble_eq_true rfl⟩ rfl (Nat.le_of_ble_eq_true rfl) dX0_heightOf_4) hf (fun e4 h c hf => ?_) (fun r1 h c hf => ?_)
  · obtain ⟨ci4, fs4, he4, hf⟩ := sd_own_some hf
    by_cases z4_50 : ci4 = 50
    · rw [if_pos z4_50] at hf; subst z4_50
      refine sj_catch (tableOf []) ({ startPc := 0, endPc := 9, handlerPc := 12, catchType := 24 }) (tableOf []) he4 rfl rfl (fun z hz => nomatch hz) (by decide) (by decide) q2367 q2399 ?_
      refine sj_astore_n [(3, .ref e4), (0, .ref a1), (1, .int a2), (2, .ref a3)] dX0_heightOf_12 (by decide) rfl ?_
      refine sj_iconst (v := 1) dX0_heightOf_13 (by decide) ?_
      exact sj_iret (o := sd_oI) hf rfl rfl rfl dX0_heightOf_14
    rw [if_neg z4_50] at hf
    cases hf
  refine sj_i2l dX0_heightOf_7 ?_
  refine sj_last hf dX0_heightOf_8 (fun h hf => ?_)
  refine sj_goto 15 dX0_heightOf_9 (by decide) ?_
  refine sj_iconst (v := 0) dX0_heightOf_15 (by decide) ?_
  exact sj_iret (o := sd_oI) hf rfl rfl rfl dX0_heightOf_16
/-! SofaDigLaw.isPropped(LSofaDig;I[J)I -/
abbrev cX0_isPropped : ByteArray := method_6_code
def yX0_isPropped : MethodName := ⟨RX0, "isPropped", "(LSofaDig;I[J)I"⟩
def dkwX0_isPropped_0 : List UInt8 := [44, 3, 42, 27, 182, 0, 26, 153, 0, 7, 10, 167, 0, 4, 9, 80, 167, 0, 6, 78, 4, 172, 3, 172]
abbrev dktX0_isPropped_0 : List UInt8 := dkwX0_isPropped_0 ++ []
theorem dksX0_isPropped_0 : cX0_isPropped.data.toList.drop 0 = dktX0_isPropped_0 := by decide +kernel
theorem dX0_isPropped_0 : decode cX0_isPropped 0 = .ok (.aload_n 2, 1) := dk_44 (dk_at dksX0_isPropped_0 0 rfl rfl)
theorem dX0_isPropped_1 : decode cX0_isPropped 1 = .ok (.iconst 0, 1) := dk_3 (dk_at dksX0_isPropped_0 1 rfl rfl)
theorem dX0_isPropped_2 : decode cX0_isPropped 2 = .ok (.aload_n 0, 1) := dk_42 (dk_at dksX0_isPropped_0 2 rfl rfl)
theorem dX0_isPropped_3 : decode cX0_isPropped 3 = .ok (.iload_n 1, 1) := dk_27 (dk_at dksX0_isPropped_0 3 rfl rfl)
theorem dX0_isPropped_4 : decode cX0_isPropped 4 = .ok (.invokevirtual 26, 3) := dk_182 0 26 (dk_at dksX0_isPropped_0 4 rfl rfl)
theorem dX0_isPropped_7 : decode cX0_isPropped 7 = .ok (.ifCond .eq 7, 3) := dk_153 0 7 (dk_at dksX0_isPropped_0 7 rfl rfl)
theorem dX0_isPropped_10 : decode cX0_isPropped 10 = .ok (.lconst 1, 1) := dk_10 (dk_at dksX0_isPropped_0 10 rfl rfl)
theorem dX0_isPropped_11 : decode cX0_isPropped 11 = .ok (.goto 4, 3) := dk_167 0 4 (dk_at dksX0_isPropped_0 11 rfl rfl)
theorem dX0_isPropped_14 : decode cX0_isPropped 14 = .ok (.lconst 0, 1) := dk_9 (dk_at dksX0_isPropped_0 14 rfl rfl)
theorem dX0_isPropped_15 : decode cX0_isPropped 15 = .ok (.lastore, 1) := dk_80 (dk_at dksX0_isPropped_0 15 rfl rfl)
theorem dX0_isPropped_16 : decode cX0_isPropped 16 = .ok (.goto 6, 3) := dk_167 0 6 (dk_at dksX0_isPropped_0 16 rfl rfl)
theorem dX0_isPropped_19 : decode cX0_isPropped 19 = .ok (.astore_n 3, 1) := dk_78 (dk_at dksX0_isPropped_0 19 rfl rfl)
theorem dX0_isPropped_20 : decode cX0_isPropped 20 = .ok (.iconst 1, 1) := dk_4 (dk_at dksX0_isPropped_0 20 rfl rfl)
theorem dX0_isPropped_21 : decode cX0_isPropped 21 = .ok (.ireturn, 1) := dk_172 (dk_at dksX0_isPropped_0 21 rfl rfl)
theorem dX0_isPropped_22 : decode cX0_isPropped 22 = .ok (.iconst 0, 1) := dk_3 (dk_at dksX0_isPropped_0 22 rfl rfl)
theorem dX0_isPropped_23 : decode cX0_isPropped 23 = .ok (.ireturn, 1) := dk_172 (dk_at dksX0_isPropped_0 23 rfl rfl)
abbrev mX0_isPropped : sd_Y := (yX0_isPropped, cX0_isPropped, 4, some (.int), some [(0, 16, 19, 24)])
def fX0_isPropped (G : sd_G) (a1 : Nat) (a2 : Int32) (a3 : Nat) : sd_M Int32 :=
  sd_bnd (sd_isC G 0 a1) fun _ =>
  sd_bx (fX1_isPropped G a1 a2) (fun e4 =>
    sd_bnd (sd_own e4) fun k4 =>
    if k4 = 50 then (
      sd_ret 1)
    else sd_fail) fun r1 =>
  if r1 = 0 then (
    sd_bnd (sd_astL a3 0 0) fun _ =>
    sd_ret 0)
  else (
    sd_bnd (sd_astL a3 0 1) fun _ =>
    sd_ret 0)
set_option maxHeartbeats 4000000 in
theorem sX0_isPropped (l : Launch) (hl : l.stackTraces = false) (G : sd_G) (a1 : Nat) (a2 : Int32) (a3 : Nat) (h : sd_H) (ρ : Int32) (cT : Nat × Nat) (h2 : sd_H) (hf : fX0_isPropped G a1 a2 a3 h = some (ρ, cT, h2)) : sd_Met mX0_isPropped ((l, G), (9, 144), [.ref a1, .int a2, .ref a3], (sd_oI ρ, h2), cT) h := by
  refine sd_entryW rfl rfl (Nat.le_of_ble_eq_true rfl) ?_
  show sd_J mX0_isPropped ((l, G), (9, 144), [.ref a1, .int a2, .ref a3], (sd_oI ρ, h2), cT) 0 [(0, .ref a1), (1, .int a2), (2, .ref a3)] [] h cT
  unfold fX0_isPropped at hf
  refine sj_aload_n 2 dX0_isPropped_0 rfl ?_
  refine sj_iconst (v := 0) dX0_isPropped_1 (by decide) ?_
  refine sj_aload_n 0 dX0_isPropped_2 rfl ?_
  refine sj_iload_n 1 dX0_isPropped_3 rfl ?_
  obtain ⟨fs4, he4, hf⟩ := sd_isC_some hf
  refine sj_xI (rest := [.int 0, .ref a3]) (fun _ _ _ e => sj_runV (n := 1) (As := [.int a2]) (rest := [.int 0, .ref a3]) (sX1_isPropped l hl G a1 a2 h _ _ _ e) he4 rfl rfl rfl rfl q2415 q2416 q2417 q116 q2418 (by decide +kernel) rfl rfl ⟨Nat.le_of_ble_eq_true rfl, Nat.le_of_ble_eq_true rfl⟩ rfl (Nat.le_of_ble_eq_true rfl) dX0_isPropped_4) hf (fun e4 h c hf => ?_) (fun r1 h c hf => ?_)
  · obtain ⟨ci4, fs4, he4, hf⟩ := sd_own_some hf
    by_cases z4_50 : ci4 = 50
    · rw [if_pos z4_50] at hf; subst z4_50
      refine sj_catch (tableOf []) ({ startPc := 0, endPc := 16, handlerPc := 19, catchType := 24 }) (tableOf []) he4 rfl rfl (fun z hz => nomatch hz) (by decide) (by decide) q2367 q2399 ?_
      refine sj_astore_n [(3, .ref e4), (0, .ref a1), (1, .int a2), (2, .ref a3)] dX0_isPropped_19 (by decide) rfl ?_
      refine sj_iconst (v := 1) dX0_isPropped_20 (by decide) ?_
      exact sj_iret (o := sd_oI) hf rfl rfl rfl dX0_isPropped_21
    rw [if_neg z4_50] at hf
    cases hf
  refine sj_ifeq 14 hf dX0_isPropped_7 (by decide) (fun g7 hf => ?_) (fun g7 hf => ?_)
  · refine sj_lconst (v := 0) dX0_isPropped_14 (by decide) ?_
    refine sj_last hf dX0_isPropped_15 (fun h hf => ?_)
    refine sj_goto 22 dX0_isPropped_16 (by decide) ?_
    refine sj_iconst (v := 0) dX0_isPropped_22 (by decide) ?_
    exact sj_iret (o := sd_oI) hf rfl rfl rfl dX0_isPropped_23
  · refine sj_lconst (v := 1) dX0_isPropped_10 (by decide) ?_
    refine sj_goto 15 dX0_isPropped_11 (by decide) ?_
    refine sj_last hf dX0_isPropped_15 (fun h hf => ?_)
    refine sj_goto 22 dX0_isPropped_16 (by decide) ?_
    refine sj_iconst (v := 0) dX0_isPropped_22 (by decide) ?_
    exact sj_iret (o := sd_oI) hf rfl rfl rfl dX0_isPropped_23
/-! SofaDigLaw.topStratum(LSofaDig;I[J)I -/
abbrev cX0_topStratum : ByteArray := method_7_code
def yX0_topStratum : MethodName := ⟨RX0, "topStratum", "(LSofaDig;I[J)I"⟩
def dkwX0_topStratum_0 : List UInt8 := [44, 3, 42, 27, 182, 0, 30, 133, 80, 167, 0, 9, 78, 4, 172, 78, 5, 172, 3, 172]
abbrev dktX0_topStratum_0 : List UInt8 := dkwX0_topStratum_0 ++ []
theorem dksX0_topStratum_0 : cX0_topStratum.data.toList.drop 0 = dktX0_topStratum_0 := by decide +kernel
theorem dX0_topStratum_0 : decode cX0_topStratum 0 = .ok (.aload_n 2, 1) := dk_44 (dk_at dksX0_topStratum_0 0 rfl rfl)
theorem dX0_topStratum_1 : decode cX0_topStratum 1 = .ok (.iconst 0, 1) := dk_3 (dk_at dksX0_topStratum_0 1 rfl rfl)
theorem dX0_topStratum_2 : decode cX0_topStratum 2 = .ok (.aload_n 0, 1) := dk_42 (dk_at dksX0_topStratum_0 2 rfl rfl)
theorem dX0_topStratum_3 : decode cX0_topStratum 3 = .ok (.iload_n 1, 1) := dk_27 (dk_at dksX0_topStratum_0 3 rfl rfl)
theorem dX0_topStratum_4 : decode cX0_topStratum 4 = .ok (.invokevirtual 30, 3) := dk_182 0 30 (dk_at dksX0_topStratum_0 4 rfl rfl)
theorem dX0_topStratum_7 : decode cX0_topStratum 7 = .ok (.i2l, 1) := dk_133 (dk_at dksX0_topStratum_0 7 rfl rfl)
theorem dX0_topStratum_8 : decode cX0_topStratum 8 = .ok (.lastore, 1) := dk_80 (dk_at dksX0_topStratum_0 8 rfl rfl)
theorem dX0_topStratum_9 : decode cX0_topStratum 9 = .ok (.goto 9, 3) := dk_167 0 9 (dk_at dksX0_topStratum_0 9 rfl rfl)
theorem dX0_topStratum_12 : decode cX0_topStratum 12 = .ok (.astore_n 3, 1) := dk_78 (dk_at dksX0_topStratum_0 12 rfl rfl)
theorem dX0_topStratum_13 : decode cX0_topStratum 13 = .ok (.iconst 1, 1) := dk_4 (dk_at dksX0_topStratum_0 13 rfl rfl)
theorem dX0_topStratum_14 : decode cX0_topStratum 14 = .ok (.ireturn, 1) := dk_172 (dk_at dksX0_topStratum_0 14 rfl rfl)
theorem dX0_topStratum_15 : decode cX0_topStratum 15 = .ok (.astore_n 3, 1) := dk_78 (dk_at dksX0_topStratum_0 15 rfl rfl)
theorem dX0_topStratum_16 : decode cX0_topStratum 16 = .ok (.iconst 2, 1) := dk_5 (dk_at dksX0_topStratum_0 16 rfl rfl)
theorem dX0_topStratum_17 : decode cX0_topStratum 17 = .ok (.ireturn, 1) := dk_172 (dk_at dksX0_topStratum_0 17 rfl rfl)
theorem dX0_topStratum_18 : decode cX0_topStratum 18 = .ok (.iconst 0, 1) := dk_3 (dk_at dksX0_topStratum_0 18 rfl rfl)
theorem dX0_topStratum_19 : decode cX0_topStratum 19 = .ok (.ireturn, 1) := dk_172 (dk_at dksX0_topStratum_0 19 rfl rfl)
abbrev mX0_topStratum : sd_Y := (yX0_topStratum, cX0_topStratum, 4, some (.int), some [(0, 9, 12, 24), (0, 9, 15, 13)])
def fX0_topStratum (G : sd_G) (a1 : Nat) (a2 : Int32) (a3 : Nat) : sd_M Int32 :=
  sd_bnd (sd_isC G 0 a1) fun _ =>
  sd_bx (fX1_topStratum G a1 a2) (fun e4 =>
    sd_bnd (sd_own e4) fun k4 =>
    if k4 = 50 then (
      sd_ret 1)
    else if k4 = 48 then (
      sd_ret 2)
    else sd_fail) fun r1 =>
  sd_bnd (sd_astL a3 0 (r1.toInt64)) fun _ =>
  sd_ret 0
set_option maxHeartbeats 4000000 in
theorem sX0_topStratum (l : Launch) (hl : l.stackTraces = false) (G : sd_G) (a1 : Nat) (a2 : Int32) (a3 : Nat) (h : sd_H) (ρ : Int32) (cT : Nat × Nat) (h2 : sd_H) (hf : fX0_topStratum G a1 a2 a3 h = some (ρ, cT, h2)) : sd_Met mX0_topStratum ((l, G), (9, 144), [.ref a1, .int a2, .ref a3], (sd_oI ρ, h2), cT) h := by
  refine sd_entryW rfl rfl (Nat.le_of_ble_eq_true rfl) ?_
  show sd_J mX0_topStratum ((l, G), (9, 144), [.ref a1, .int a2, .ref a3], (sd_oI ρ, h2), cT) 0 [(0, .ref a1), (1, .int a2), (2, .ref a3)] [] h cT
  unfold fX0_topStratum at hf
  refine sj_aload_n 2 dX0_topStratum_0 rfl ?_
  refine sj_iconst (v := 0) dX0_topStratum_1 (by decide) ?_
  refine sj_aload_n 0 dX0_topStratum_2 rfl ?_
  refine sj_iload_n 1 dX0_topStratum_3 rfl ?_
  obtain ⟨fs4, he4, hf⟩ := sd_isC_some hf
  refine sj_xI (rest := [.int 0, .ref a3]) (fun _ _ _ e => sj_runV (n := 1) (As := [.int a2]) (rest := [.int 0, .ref a3]) (sX1_topStratum l hl G a1 a2 h _ _ _ e) he4 rfl rfl rfl rfl q2422 q2423 q2424 q116 q2425 (by decide +kernel) rfl rfl ⟨Nat.le_of_ble_eq_true rfl, Nat.le_of_ble_eq_true rfl⟩ rfl (Nat.le_of_ble_eq_true rfl) dX0_topStratum_4) hf (fun e4 h c hf => ?_) (fun r1 h c hf => ?_)
  · obtain ⟨ci4, fs4, he4, hf⟩ := sd_own_some hf
    by_cases z4_50 : ci4 = 50
    · rw [if_pos z4_50] at hf; subst z4_50
      refine sj_catch (tableOf []) ({ startPc := 0, endPc := 9, handlerPc := 12, catchType := 24 }) (tableOf [(0, 9, 15, 13)]) he4 rfl rfl (fun z hz => nomatch hz) (by decide) (by decide) q2367 q2399 ?_
      refine sj_astore_n [(3, .ref e4), (0, .ref a1), (1, .int a2), (2, .ref a3)] dX0_topStratum_12 (by decide) rfl ?_
      refine sj_iconst (v := 1) dX0_topStratum_13 (by decide) ?_
      exact sj_iret (o := sd_oI) hf rfl rfl rfl dX0_topStratum_14
    rw [if_neg z4_50] at hf
    by_cases z4_48 : ci4 = 48
    · rw [if_pos z4_48] at hf; subst z4_48
      refine sj_catch (tableOf [(0, 9, 12, 24)]) ({ startPc := 0, endPc := 9, handlerPc := 15, catchType := 13 }) (tableOf []) he4 rfl rfl (fun z hz => by rw [List.mem_singleton.mp hz]; exact Or.inr ⟨by decide, _, q2367, by decide⟩) (by decide) (by decide) q2315 q2325 ?_
      refine sj_astore_n [(3, .ref e4), (0, .ref a1), (1, .int a2), (2, .ref a3)] dX0_topStratum_15 (by decide) rfl ?_
      refine sj_iconst (v := 2) dX0_topStratum_16 (by decide) ?_
      exact sj_iret (o := sd_oI) hf rfl rfl rfl dX0_topStratum_17
    rw [if_neg z4_48] at hf
    cases hf
  refine sj_i2l dX0_topStratum_7 ?_
  refine sj_last hf dX0_topStratum_8 (fun h hf => ?_)
  refine sj_goto 18 dX0_topStratum_9 (by decide) ?_
  refine sj_iconst (v := 0) dX0_topStratum_18 (by decide) ?_
  exact sj_iret (o := sd_oI) hf rfl rfl rfl dX0_topStratum_19
/-! SofaDigLaw.isTopLoose(LSofaDig;I[J)I -/
abbrev cX0_isTopLoose : ByteArray := method_8_code
def yX0_isTopLoose : MethodName := ⟨RX0, "isTopLoose", "(LSofaDig;I[J)I"⟩
def dkwX0_isTopLoose_1 : List UInt8 := [172, 3, 172]
abbrev dktX0_isTopLoose_1 : List UInt8 := dkwX0_isTopLoose_1 ++ []
def dkwX0_isTopLoose_0 : List UInt8 := [44, 3, 42, 27, 182, 0, 33, 153, 0, 7, 10, 167, 0, 4, 9, 80, 167, 0, 9, 78, 4, 172, 78, 5]
abbrev dktX0_isTopLoose_0 : List UInt8 := dkwX0_isTopLoose_0 ++ dktX0_isTopLoose_1
theorem dksX0_isTopLoose_0 : cX0_isTopLoose.data.toList.drop 0 = dktX0_isTopLoose_0 := by decide +kernel
theorem dksX0_isTopLoose_1 : cX0_isTopLoose.data.toList.drop 24 = dktX0_isTopLoose_1 := dk_seg dksX0_isTopLoose_0 24 rfl rfl
theorem dX0_isTopLoose_0 : decode cX0_isTopLoose 0 = .ok (.aload_n 2, 1) := dk_44 (dk_at dksX0_isTopLoose_0 0 rfl rfl)
theorem dX0_isTopLoose_1 : decode cX0_isTopLoose 1 = .ok (.iconst 0, 1) := dk_3 (dk_at dksX0_isTopLoose_0 1 rfl rfl)
theorem dX0_isTopLoose_2 : decode cX0_isTopLoose 2 = .ok (.aload_n 0, 1) := dk_42 (dk_at dksX0_isTopLoose_0 2 rfl rfl)
theorem dX0_isTopLoose_3 : decode cX0_isTopLoose 3 = .ok (.iload_n 1, 1) := dk_27 (dk_at dksX0_isTopLoose_0 3 rfl rfl)
theorem dX0_isTopLoose_4 : decode cX0_isTopLoose 4 = .ok (.invokevirtual 33, 3) := dk_182 0 33 (dk_at dksX0_isTopLoose_0 4 rfl rfl)
theorem dX0_isTopLoose_7 : decode cX0_isTopLoose 7 = .ok (.ifCond .eq 7, 3) := dk_153 0 7 (dk_at dksX0_isTopLoose_0 7 rfl rfl)
theorem dX0_isTopLoose_10 : decode cX0_isTopLoose 10 = .ok (.lconst 1, 1) := dk_10 (dk_at dksX0_isTopLoose_0 10 rfl rfl)
theorem dX0_isTopLoose_11 : decode cX0_isTopLoose 11 = .ok (.goto 4, 3) := dk_167 0 4 (dk_at dksX0_isTopLoose_0 11 rfl rfl)
theorem dX0_isTopLoose_14 : decode cX0_isTopLoose 14 = .ok (.lconst 0, 1) := dk_9 (dk_at dksX0_isTopLoose_0 14 rfl rfl)
theorem dX0_isTopLoose_15 : decode cX0_isTopLoose 15 = .ok (.lastore, 1) := dk_80 (dk_at dksX0_isTopLoose_0 15 rfl rfl)
theorem dX0_isTopLoose_16 : decode cX0_isTopLoose 16 = .ok (.goto 9, 3) := dk_167 0 9 (dk_at dksX0_isTopLoose_0 16 rfl rfl)
theorem dX0_isTopLoose_19 : decode cX0_isTopLoose 19 = .ok (.astore_n 3, 1) := dk_78 (dk_at dksX0_isTopLoose_0 19 rfl rfl)
theorem dX0_isTopLoose_20 : decode cX0_isTopLoose 20 = .ok (.iconst 1, 1) := dk_4 (dk_at dksX0_isTopLoose_0 20 rfl rfl)
theorem dX0_isTopLoose_21 : decode cX0_isTopLoose 21 = .ok (.ireturn, 1) := dk_172 (dk_at dksX0_isTopLoose_0 21 rfl rfl)
theorem dX0_isTopLoose_22 : decode cX0_isTopLoose 22 = .ok (.astore_n 3, 1) := dk_78 (dk_at dksX0_isTopLoose_0 22 rfl rfl)
theorem dX0_isTopLoose_23 : decode cX0_isTopLoose 23 = .ok (.iconst 2, 1) := dk_5 (dk_at dksX0_isTopLoose_0 23 rfl rfl)
theorem dX0_isTopLoose_24 : decode cX0_isTopLoose 24 = .ok (.ireturn, 1) := dk_172 (dk_at dksX0_isTopLoose_1 0 rfl rfl)
theorem dX0_isTopLoose_25 : decode cX0_isTopLoose 25 = .ok (.iconst 0, 1) := dk_3 (dk_at dksX0_isTopLoose_1 1 rfl rfl)
theorem dX0_isTopLoose_26 : decode cX0_isTopLoose 26 = .ok (.ireturn, 1) := dk_172 (dk_at dksX0_isTopLoose_1 2 rfl rfl)
abbrev mX0_isTopLoose : sd_Y := (yX0_isTopLoose, cX0_isTopLoose, 4, some (.int), some [(0, 16, 19, 24), (0, 16, 22, 13)])
def fX0_isTopLoose (G : sd_G) (a1 : Nat) (a2 : Int32) (a3 : Nat) : sd_M Int32 :=
  sd_bnd (sd_isC G 0 a1) fun _ =>
  sd_bx (fX1_isTopLoose G a1 a2) (fun e4 =>
    sd_bnd (sd_own e4) fun k4 =>
    if k4 = 50 then (
      sd_ret 1)
    else if k4 = 48 then (
      sd_ret 2)
    else sd_fail) fun r1 =>
  if r1 = 0 then (
    sd_bnd (sd_astL a3 0 0) fun _ =>
    sd_ret 0)
  else (
    sd_bnd (sd_astL a3 0 1) fun _ =>
    sd_ret 0)
set_option maxHeartbeats 4000000 in
theorem sX0_isTopLoose (l : Launch) (hl : l.stackTraces = false) (G : sd_G) (a1 : Nat) (a2 : Int32) (a3 : Nat) (h : sd_H) (ρ : Int32) (cT : Nat × Nat) (h2 : sd_H) (hf : fX0_isTopLoose G a1 a2 a3 h = some (ρ, cT, h2)) : sd_Met mX0_isTopLoose ((l, G), (9, 144), [.ref a1, .int a2, .ref a3], (sd_oI ρ, h2), cT) h := by
  refine sd_entryW rfl rfl (Nat.le_of_ble_eq_true rfl) ?_
  show sd_J mX0_isTopLoose ((l, G), (9, 144), [.ref a1, .int a2, .ref a3], (sd_oI ρ, h2), cT) 0 [(0, .ref a1), (1, .int a2), (2, .ref a3)] [] h cT
  unfold fX0_isTopLoose at hf
  refine sj_aload_n 2 dX0_isTopLoose_0 rfl ?_
  refine sj_iconst (v := 0) dX0_isTopLoose_1 (by decide) ?_
  refine sj_aload_n 0 dX0_isTopLoose_2 rfl ?_
  refine sj_iload_n 1 dX0_isTopLoose_3 rfl ?_
  obtain ⟨fs4, he4, hf⟩ := sd_isC_some hf
  refine sj_xI (rest := [.int 0, .ref a3]) (fun _ _ _ e => sj_runV (n := 1) (As := [.int a2]) (rest := [.int 0, .ref a3]) (sX1_isTopLoose l hl G a1 a2 h _ _ _ e) he4 rfl rfl rfl rfl q2433 q2434 q2435 q116 q2436 (by decide +kernel) rfl rfl ⟨Nat.le_of_ble_eq_true rfl, Nat.le_of_ble_eq_true rfl⟩ rfl (Nat.le_of_ble_eq_true rfl) dX0_isTopLoose_4) hf (fun e4 h c hf => ?_) (fun r1 h c hf => ?_)
  · obtain ⟨ci4, fs4, he4, hf⟩ := sd_own_some hf
    by_cases z4_50 : ci4 = 50
    · rw [if_pos z4_50] at hf; subst z4_50
      refine sj_catch (tableOf []) ({ startPc := 0, endPc := 16, handlerPc := 19, catchType := 24 }) (tableOf [(0, 16, 22, 13)]) he4 rfl rfl (fun z hz => nomatch hz) (by decide) (by decide) q2367 q2399 ?_
      refine sj_astore_n [(3, .ref e4), (0, .ref a1), (1, .int a2), (2, .ref a3)] dX0_isTopLoose_19 (by decide) rfl ?_
      refine sj_iconst (v := 1) dX0_isTopLoose_20 (by decide) ?_
      exact sj_iret (o := sd_oI) hf rfl rfl rfl dX0_isTopLoose_21
    rw [if_neg z4_50] at hf
    by_cases z4_48 : ci4 = 48
    · rw [if_pos z4_48] at hf; subst z4_48
      refine sj_catch (tableOf [(0, 16, 19, 24)]) ({ startPc := 0, endPc := 16, handlerPc := 22, catchType := 13 }) (tableOf []) he4 rfl rfl (fun z hz => by rw [List.mem_singleton.mp hz]; exact Or.inr ⟨by decide, _, q2367, by decide⟩) (by decide) (by decide) q2315 q2325 ?_
      refine sj_astore_n [(3, .ref e4), (0, .ref a1), (1, .int a2), (2, .ref a3)] dX0_isTopLoose_22 (by decide) rfl ?_
      refine sj_iconst (v := 2) dX0_isTopLoose_23 (by decide) ?_
      exact sj_iret (o := sd_oI) hf rfl rfl rfl dX0_isTopLoose_24
    rw [if_neg z4_48] at hf
    cases hf
  refine sj_ifeq 14 hf dX0_isTopLoose_7 (by decide) (fun g7 hf => ?_) (fun g7 hf => ?_)
  · refine sj_lconst (v := 0) dX0_isTopLoose_14 (by decide) ?_
    refine sj_last hf dX0_isTopLoose_15 (fun h hf => ?_)
    refine sj_goto 25 dX0_isTopLoose_16 (by decide) ?_
    refine sj_iconst (v := 0) dX0_isTopLoose_25 (by decide) ?_
    exact sj_iret (o := sd_oI) hf rfl rfl rfl dX0_isTopLoose_26
  · refine sj_lconst (v := 1) dX0_isTopLoose_10 (by decide) ?_
    refine sj_goto 15 dX0_isTopLoose_11 (by decide) ?_
    refine sj_last hf dX0_isTopLoose_15 (fun h hf => ?_)
    refine sj_goto 25 dX0_isTopLoose_16 (by decide) ?_
    refine sj_iconst (v := 0) dX0_isTopLoose_25 (by decide) ?_
    exact sj_iret (o := sd_oI) hf rfl rfl rfl dX0_isTopLoose_26
/-! SofaDigLaw.hasTopSpring(LSofaDig;I[J)I -/
abbrev cX0_hasTopSpring : ByteArray := method_9_code
def yX0_hasTopSpring : MethodName := ⟨RX0, "hasTopSpring", "(LSofaDig;I[J)I"⟩
def dkwX0_hasTopSpring_1 : List UInt8 := [172, 3, 172]
abbrev dktX0_hasTopSpring_1 : List UInt8 := dkwX0_hasTopSpring_1 ++ []
def dkwX0_hasTopSpring_0 : List UInt8 := [44, 3, 42, 27, 182, 0, 36, 153, 0, 7, 10, 167, 0, 4, 9, 80, 167, 0, 9, 78, 4, 172, 78, 5]
abbrev dktX0_hasTopSpring_0 : List UInt8 := dkwX0_hasTopSpring_0 ++ dktX0_hasTopSpring_1
theorem dksX0_hasTopSpring_0 : cX0_hasTopSpring.data.toList.drop 0 = dktX0_hasTopSpring_0 := by decide +kernel
theorem dksX0_hasTopSpring_1 : cX0_hasTopSpring.data.toList.drop 24 = dktX0_hasTopSpring_1 := dk_seg dksX0_hasTopSpring_0 24 rfl rfl
theorem dX0_hasTopSpring_0 : decode cX0_hasTopSpring 0 = .ok (.aload_n 2, 1) := dk_44 (dk_at dksX0_hasTopSpring_0 0 rfl rfl)
theorem dX0_hasTopSpring_1 : decode cX0_hasTopSpring 1 = .ok (.iconst 0, 1) := dk_3 (dk_at dksX0_hasTopSpring_0 1 rfl rfl)
theorem dX0_hasTopSpring_2 : decode cX0_hasTopSpring 2 = .ok (.aload_n 0, 1) := dk_42 (dk_at dksX0_hasTopSpring_0 2 rfl rfl)
theorem dX0_hasTopSpring_3 : decode cX0_hasTopSpring 3 = .ok (.iload_n 1, 1) := dk_27 (dk_at dksX0_hasTopSpring_0 3 rfl rfl)
theorem dX0_hasTopSpring_4 : decode cX0_hasTopSpring 4 = .ok (.invokevirtual 36, 3) := dk_182 0 36 (dk_at dksX0_hasTopSpring_0 4 rfl rfl)
theorem dX0_hasTopSpring_7 : decode cX0_hasTopSpring 7 = .ok (.ifCond .eq 7, 3) := dk_153 0 7 (dk_at dksX0_hasTopSpring_0 7 rfl rfl)
theorem dX0_hasTopSpring_10 : decode cX0_hasTopSpring 10 = .ok (.lconst 1, 1) := dk_10 (dk_at dksX0_hasTopSpring_0 10 rfl rfl)
theorem dX0_hasTopSpring_11 : decode cX0_hasTopSpring 11 = .ok (.goto 4, 3) := dk_167 0 4 (dk_at dksX0_hasTopSpring_0 11 rfl rfl)
theorem dX0_hasTopSpring_14 : decode cX0_hasTopSpring 14 = .ok (.lconst 0, 1) := dk_9 (dk_at dksX0_hasTopSpring_0 14 rfl rfl)
theorem dX0_hasTopSpring_15 : decode cX0_hasTopSpring 15 = .ok (.lastore, 1) := dk_80 (dk_at dksX0_hasTopSpring_0 15 rfl rfl)
theorem dX0_hasTopSpring_16 : decode cX0_hasTopSpring 16 = .ok (.goto 9, 3) := dk_167 0 9 (dk_at dksX0_hasTopSpring_0 16 rfl rfl)
theorem dX0_hasTopSpring_19 : decode cX0_hasTopSpring 19 = .ok (.astore_n 3, 1) := dk_78 (dk_at dksX0_hasTopSpring_0 19 rfl rfl)
theorem dX0_hasTopSpring_20 : decode cX0_hasTopSpring 20 = .ok (.iconst 1, 1) := dk_4 (dk_at dksX0_hasTopSpring_0 20 rfl rfl)
theorem dX0_hasTopSpring_21 : decode cX0_hasTopSpring 21 = .ok (.ireturn, 1) := dk_172 (dk_at dksX0_hasTopSpring_0 21 rfl rfl)
theorem dX0_hasTopSpring_22 : decode cX0_hasTopSpring 22 = .ok (.astore_n 3, 1) := dk_78 (dk_at dksX0_hasTopSpring_0 22 rfl rfl)
theorem dX0_hasTopSpring_23 : decode cX0_hasTopSpring 23 = .ok (.iconst 2, 1) := dk_5 (dk_at dksX0_hasTopSpring_0 23 rfl rfl)
theorem dX0_hasTopSpring_24 : decode cX0_hasTopSpring 24 = .ok (.ireturn, 1) := dk_172 (dk_at dksX0_hasTopSpring_1 0 rfl rfl)
theorem dX0_hasTopSpring_25 : decode cX0_hasTopSpring 25 = .ok (.iconst 0, 1) := dk_3 (dk_at dksX0_hasTopSpring_1 1 rfl rfl)
theorem dX0_hasTopSpring_26 : decode cX0_hasTopSpring 26 = .ok (.ireturn, 1) := dk_172 (dk_at dksX0_hasTopSpring_1 2 rfl rfl)
abbrev mX0_hasTopSpring : sd_Y := (yX0_hasTopSpring, cX0_hasTopSpring, 4, some (.int), some [(0, 16, 19, 24), (0, 16, 22, 13)])
def fX0_hasTopSpring (G : sd_G) (a1 : Nat) (a2 : Int32) (a3 : Nat) : sd_M Int32 :=
  sd_bnd (sd_isC G 0 a1) fun _ =>
  sd_bx (fX1_hasTopSpring G a1 a2) (fun e4 =>
    sd_bnd (sd_own e4) fun k4 =>
    if k4 = 50 then (
      sd_ret 1)
    else if k4 = 48 then (
      sd_ret 2)
    else sd_fail) fun r1 =>
  if r1 = 0 then (
    sd_bnd (sd_astL a3 0 0) fun _ =>
    sd_ret 0)
  else (
    sd_bnd (sd_astL a3 0 1) fun _ =>
    sd_ret 0)
set_option maxHeartbeats 4000000 in
theorem sX0_hasTopSpring (l : Launch) (hl : l.stackTraces = false) (G : sd_G) (a1 : Nat) (a2 : Int32) (a3 : Nat) (h : sd_H) (ρ : Int32) (cT : Nat × Nat) (h2 : sd_H) (hf : fX0_hasTopSpring G a1 a2 a3 h = some (ρ, cT, h2)) : sd_Met mX0_hasTopSpring ((l, G), (9, 144), [.ref a1, .int a2, .ref a3], (sd_oI ρ, h2), cT) h := by
  refine sd_entryW rfl rfl (Nat.le_of_ble_eq_true rfl) ?_
  show sd_J mX0_hasTopSpring ((l, G), (9, 144), [.ref a1, .int a2, .ref a3], (sd_oI ρ, h2), cT) 0 [(0, .ref a1), (1, .int a2), (2, .ref a3)] [] h cT
  unfold fX0_hasTopSpring at hf
  refine sj_aload_n 2 dX0_hasTopSpring_0 rfl ?_
  refine sj_iconst (v := 0) dX0_hasTopSpring_1 (by decide) ?_
  refine sj_aload_n 0 dX0_hasTopSpring_2 rfl ?_
  refine sj_iload_n 1 dX0_hasTopSpring_3 rfl ?_
  obtain ⟨fs4, he4, hf⟩ := sd_isC_some hf
  refine sj_xI (rest := [.int 0, .ref a3]) (fun _ _ _ e => sj_runV (n := 1) (As := [.int a2]) (rest := [.int 0, .ref a3]) (sX1_hasTopSpring l hl G a1 a2 h _ _ _ e) he4 rfl rfl rfl rfl q2440 q2441 q2442 q116 q2443 (by decide +kernel) rfl rfl ⟨Nat.le_of_ble_eq_true rfl, Nat.le_of_ble_eq_true rfl⟩ rfl (Nat.le_of_ble_eq_true rfl) dX0_hasTopSpring_4) hf (fun e4 h c hf => ?_) (fun r1 h c hf => ?_)
  · obtain ⟨ci4, fs4, he4, hf⟩ := sd_own_some hf
    by_cases z4_50 : ci4 = 50
    · rw [if_pos z4_50] at hf; subst z4_50
      refine sj_catch (tableOf []) ({ startPc := 0, endPc := 16, handlerPc := 19, catchType := 24 }) (tableOf [(0, 16, 22, 13)]) he4 rfl rfl (fun z hz => nomatch hz) (by decide) (by decide) q2367 q2399 ?_
      refine sj_astore_n [(3, .ref e4), (0, .ref a1), (1, .int a2), (2, .ref a3)] dX0_hasTopSpring_19 (by decide) rfl ?_
      refine sj_iconst (v := 1) dX0_hasTopSpring_20 (by decide) ?_
      exact sj_iret (o := sd_oI) hf rfl rfl rfl dX0_hasTopSpring_21
    rw [if_neg z4_50] at hf
    by_cases z4_48 : ci4 = 48
    · rw [if_pos z4_48] at hf; subst z4_48
      refine sj_catch (tableOf [(0, 16, 19, 24)]) ({ startPc := 0, endPc := 16, handlerPc := 22, catchType := 13 }) (tableOf []) he4 rfl rfl (fun z hz => by rw [List.mem_singleton.mp hz]; exact Or.inr ⟨by decide, _, q2367, by decide⟩) (by decide) (by decide) q2315 q2325 ?_
      refine sj_astore_n [(3, .ref e4), (0, .ref a1), (1, .int a2), (2, .ref a3)] dX0_hasTopSpring_22 (by decide) rfl ?_
      refine sj_iconst (v := 2) dX0_hasTopSpring_23 (by decide) ?_
      exact sj_iret (o := sd_oI) hf rfl rfl rfl dX0_hasTopSpring_24
    rw [if_neg z4_48] at hf
    cases hf
  refine sj_ifeq 14 hf dX0_hasTopSpring_7 (by decide) (fun g7 hf => ?_) (fun g7 hf => ?_)
  · refine sj_lconst (v := 0) dX0_hasTopSpring_14 (by decide) ?_
    refine sj_last hf dX0_hasTopSpring_15 (fun h hf => ?_)
    refine sj_goto 25 dX0_hasTopSpring_16 (by decide) ?_
    refine sj_iconst (v := 0) dX0_hasTopSpring_25 (by decide) ?_
    exact sj_iret (o := sd_oI) hf rfl rfl rfl dX0_hasTopSpring_26
  · refine sj_lconst (v := 1) dX0_hasTopSpring_10 (by decide) ?_
    refine sj_goto 15 dX0_hasTopSpring_11 (by decide) ?_
    refine sj_last hf dX0_hasTopSpring_15 (fun h hf => ?_)
    refine sj_goto 25 dX0_hasTopSpring_16 (by decide) ?_
    refine sj_iconst (v := 0) dX0_hasTopSpring_25 (by decide) ?_
    exact sj_iret (o := sd_oI) hf rfl rfl rfl dX0_hasTopSpring_26
/-! SofaDigLaw.findsLeft(LSofaDig;I[J)I -/
abbrev cX0_findsLeft : ByteArray := method_10_code
def yX0_findsLeft : MethodName := ⟨RX0, "findsLeft", "(LSofaDig;I[J)I"⟩
def dkwX0_findsLeft_0 : List UInt8 := [44, 3, 42, 27, 182, 0, 39, 133, 80, 167, 0, 6, 78, 4, 172, 3, 172]
abbrev dktX0_findsLeft_0 : List UInt8 := dkwX0_findsLeft_0 ++ []
theorem dksX0_findsLeft_0 : cX0_findsLeft.data.toList.drop 0 = dktX0_findsLeft_0 := by decide +kernel
theorem dX0_findsLeft_0 : decode cX0_findsLeft 0 = .ok (.aload_n 2, 1) := dk_44 (dk_at dksX0_findsLeft_0 0 rfl rfl)
theorem dX0_findsLeft_1 : decode cX0_findsLeft 1 = .ok (.iconst 0, 1) := dk_3 (dk_at dksX0_findsLeft_0 1 rfl rfl)
theorem dX0_findsLeft_2 : decode cX0_findsLeft 2 = .ok (.aload_n 0, 1) := dk_42 (dk_at dksX0_findsLeft_0 2 rfl rfl)
theorem dX0_findsLeft_3 : decode cX0_findsLeft 3 = .ok (.iload_n 1, 1) := dk_27 (dk_at dksX0_findsLeft_0 3 rfl rfl)
theorem dX0_findsLeft_4 : decode cX0_findsLeft 4 = .ok (.invokevirtual 39, 3) := dk_182 0 39 (dk_at dksX0_findsLeft_0 4 rfl rfl)
theorem dX0_findsLeft_7 : decode cX0_findsLeft 7 = .ok (.i2l, 1) := dk_133 (dk_at dksX0_findsLeft_0 7 rfl rfl)
theorem dX0_findsLeft_8 : decode cX0_findsLeft 8 = .ok (.lastore, 1) := dk_80 (dk_at dksX0_findsLeft_0 8 rfl rfl)
theorem dX0_findsLeft_9 : decode cX0_findsLeft 9 = .ok (.goto 6, 3) := dk_167 0 6 (dk_at dksX0_findsLeft_0 9 rfl rfl)
theorem dX0_findsLeft_12 : decode cX0_findsLeft 12 = .ok (.astore_n 3, 1) := dk_78 (dk_at dksX0_findsLeft_0 12 rfl rfl)
theorem dX0_findsLeft_13 : decode cX0_findsLeft 13 = .ok (.iconst 1, 1) := dk_4 (dk_at dksX0_findsLeft_0 13 rfl rfl)
theorem dX0_findsLeft_14 : decode cX0_findsLeft 14 = .ok (.ireturn, 1) := dk_172 (dk_at dksX0_findsLeft_0 14 rfl rfl)
theorem dX0_findsLeft_15 : decode cX0_findsLeft 15 = .ok (.iconst 0, 1) := dk_3 (dk_at dksX0_findsLeft_0 15 rfl rfl)
theorem dX0_findsLeft_16 : decode cX0_findsLeft 16 = .ok (.ireturn, 1) := dk_172 (dk_at dksX0_findsLeft_0 16 rfl rfl)
abbrev mX0_findsLeft : sd_Y := (yX0_findsLeft, cX0_findsLeft, 4, some (.int), some [(0, 9, 12, 24)])
def fX0_findsLeft (G : sd_G) (a1 : Nat) (a2 : Int32) (a3 : Nat) : sd_M Int32 :=
  sd_bnd (sd_isC G 0 a1) fun _ =>
  sd_bx (fX1_findsLeft G a1 a2) (fun e4 =>
    sd_bnd (sd_own e4) fun k4 =>
    if k4 = 50 then (
      sd_ret 1)
    else sd_fail) fun r1 =>
  sd_bnd (sd_astL a3 0 (r1.toInt64)) fun _ =>
  sd_ret 0
set_option maxHeartbeats 4000000 in
theorem sX0_findsLeft (l : Launch) (hl : l.stackTraces = false) (G : sd_G) (a1 : Nat) (a2 : Int32) (a3 : Nat) (h : sd_H) (ρ : Int32) (cT : Nat × Nat) (h2 : sd_H) (hf : fX0_findsLeft G a1 a2 a3 h = some (ρ, cT, h2)) : sd_Met mX0_findsLeft ((l, G), (9, 144), [.ref a1, .int a2, .ref a3], (sd_oI ρ, h2), cT) h := by
  refine sd_entryW rfl rfl (Nat.le_of_ble_eq_true rfl) ?_
  show sd_J mX0_findsLeft ((l, G), (9, 144), [.ref a1, .int a2, .ref a3], (sd_oI ρ, h2), cT) 0 [(0, .ref a1), (1, .int a2), (2, .ref a3)] [] h cT
  unfold fX0_findsLeft at hf
  refine sj_aload_n 2 dX0_findsLeft_0 rfl ?_
  refine sj_iconst (v := 0) dX0_findsLeft_1 (by decide) ?_
  refine sj_aload_n 0 dX0_findsLeft_2 rfl ?_
  refine sj_iload_n 1 dX0_findsLeft_3 rfl ?_
  obtain ⟨fs4, he4, hf⟩ := sd_isC_some hf
  refine sj_xI (rest := [.int 0, .ref a3]) (fun _ _ _ e => sj_runV (n := 1) (As := [.int a2]) (rest := [.int 0, .ref a3]) (sX1_findsLeft l hl G a1 a2 h _ _ _ e) he4 rfl rfl rfl rfl q2447 q2448 q2449 q116 q2450 (by decide +kernel) rfl rfl ⟨Nat.le_of_ble_eq_true rfl, Nat.le_of_ble_eq_true rfl⟩ rfl (Nat.le_of_ble_eq_true rfl) dX0_findsLeft_4) hf (fun e4 h c hf => ?_) (fun r1 h c hf => ?_)
  · obtain ⟨ci4, fs4, he4, hf⟩ := sd_own_some hf
    by_cases z4_50 : ci4 = 50
    · rw [if_pos z4_50] at hf; subst z4_50
      refine sj_catch (tableOf []) ({ startPc := 0, endPc := 9, handlerPc := 12, catchType := 24 }) (tableOf []) he4 rfl rfl (fun z hz => nomatch hz) (by decide) (by decide) q2367 q2399 ?_
      refine sj_astore_n [(3, .ref e4), (0, .ref a1), (1, .int a2), (2, .ref a3)] dX0_findsLeft_12 (by decide) rfl ?_
      refine sj_iconst (v := 1) dX0_findsLeft_13 (by decide) ?_
      exact sj_iret (o := sd_oI) hf rfl rfl rfl dX0_findsLeft_14
    rw [if_neg z4_50] at hf
    cases hf
  refine sj_i2l dX0_findsLeft_7 ?_
  refine sj_last hf dX0_findsLeft_8 (fun h hf => ?_)
  refine sj_goto 15 dX0_findsLeft_9 (by decide) ?_
  refine sj_iconst (v := 0) dX0_findsLeft_15 (by decide) ?_
  exact sj_iret (o := sd_oI) hf rfl rfl rfl dX0_findsLeft_16
/-! SofaDigLaw.isCoin(LSofaDig;I[J)I -/
abbrev cX0_isCoin : ByteArray := method_11_code
def yX0_isCoin : MethodName := ⟨RX0, "isCoin", "(LSofaDig;I[J)I"⟩
def dkwX0_isCoin_0 : List UInt8 := [44, 3, 42, 27, 182, 0, 42, 153, 0, 7, 10, 167, 0, 4, 9, 80, 167, 0, 6, 78, 4, 172, 3, 172]
abbrev dktX0_isCoin_0 : List UInt8 := dkwX0_isCoin_0 ++ []
theorem dksX0_isCoin_0 : cX0_isCoin.data.toList.drop 0 = dktX0_isCoin_0 := by decide +kernel
theorem dX0_isCoin_0 : decode cX0_isCoin 0 = .ok (.aload_n 2, 1) := dk_44 (dk_at dksX0_isCoin_0 0 rfl rfl)
theorem dX0_isCoin_1 : decode cX0_isCoin 1 = .ok (.iconst 0, 1) := dk_3 (dk_at dksX0_isCoin_0 1 rfl rfl)
theorem dX0_isCoin_2 : decode cX0_isCoin 2 = .ok (.aload_n 0, 1) := dk_42 (dk_at dksX0_isCoin_0 2 rfl rfl)
theorem dX0_isCoin_3 : decode cX0_isCoin 3 = .ok (.iload_n 1, 1) := dk_27 (dk_at dksX0_isCoin_0 3 rfl rfl)
theorem dX0_isCoin_4 : decode cX0_isCoin 4 = .ok (.invokevirtual 42, 3) := dk_182 0 42 (dk_at dksX0_isCoin_0 4 rfl rfl)
theorem dX0_isCoin_7 : decode cX0_isCoin 7 = .ok (.ifCond .eq 7, 3) := dk_153 0 7 (dk_at dksX0_isCoin_0 7 rfl rfl)
theorem dX0_isCoin_10 : decode cX0_isCoin 10 = .ok (.lconst 1, 1) := dk_10 (dk_at dksX0_isCoin_0 10 rfl rfl)
theorem dX0_isCoin_11 : decode cX0_isCoin 11 = .ok (.goto 4, 3) := dk_167 0 4 (dk_at dksX0_isCoin_0 11 rfl rfl)
theorem dX0_isCoin_14 : decode cX0_isCoin 14 = .ok (.lconst 0, 1) := dk_9 (dk_at dksX0_isCoin_0 14 rfl rfl)
theorem dX0_isCoin_15 : decode cX0_isCoin 15 = .ok (.lastore, 1) := dk_80 (dk_at dksX0_isCoin_0 15 rfl rfl)
theorem dX0_isCoin_16 : decode cX0_isCoin 16 = .ok (.goto 6, 3) := dk_167 0 6 (dk_at dksX0_isCoin_0 16 rfl rfl)
theorem dX0_isCoin_19 : decode cX0_isCoin 19 = .ok (.astore_n 3, 1) := dk_78 (dk_at dksX0_isCoin_0 19 rfl rfl)
theorem dX0_isCoin_20 : decode cX0_isCoin 20 = .ok (.iconst 1, 1) := dk_4 (dk_at dksX0_isCoin_0 20 rfl rfl)
theorem dX0_isCoin_21 : decode cX0_isCoin 21 = .ok (.ireturn, 1) := dk_172 (dk_at dksX0_isCoin_0 21 rfl rfl)
theorem dX0_isCoin_22 : decode cX0_isCoin 22 = .ok (.iconst 0, 1) := dk_3 (dk_at dksX0_isCoin_0 22 rfl rfl)
theorem dX0_isCoin_23 : decode cX0_isCoin 23 = .ok (.ireturn, 1) := dk_172 (dk_at dksX0_isCoin_0 23 rfl rfl)
abbrev mX0_isCoin : sd_Y := (yX0_isCoin, cX0_isCoin, 4, some (.int), some [(0, 16, 19, 24)])
def fX0_isCoin (G : sd_G) (a1 : Nat) (a2 : Int32) (a3 : Nat) : sd_M Int32 :=
  sd_bnd (sd_isC G 0 a1) fun _ =>
  sd_bx (fX1_isCoin G a1 a2) (fun e4 =>
    sd_bnd (sd_own e4) fun k4 =>
    if k4 = 50 then (
      sd_ret 1)
    else sd_fail) fun r1 =>
  if r1 = 0 then (
    sd_bnd (sd_astL a3 0 0) fun _ =>
    sd_ret 0)
  else (
    sd_bnd (sd_astL a3 0 1) fun _ =>
    sd_ret 0)
set_option maxHeartbeats 4000000 in
theorem sX0_isCoin (l : Launch) (hl : l.stackTraces = false) (G : sd_G) (a1 : Nat) (a2 : Int32) (a3 : Nat) (h : sd_H) (ρ : Int32) (cT : Nat × Nat) (h2 : sd_H) (hf : fX0_isCoin G a1 a2 a3 h = some (ρ, cT, h2)) : sd_Met mX0_isCoin ((l, G), (10, 165), [.ref a1, .int a2, .ref a3], (sd_oI ρ, h2), cT) h := by
  refine sd_entryW rfl rfl (Nat.le_of_ble_eq_true rfl) ?_
  show sd_J mX0_isCoin ((l, G), (10, 165), [.ref a1, .int a2, .ref a3], (sd_oI ρ, h2), cT) 0 [(0, .ref a1), (1, .int a2), (2, .ref a3)] [] h cT
  unfold fX0_isCoin at hf
  refine sj_aload_n 2 dX0_isCoin_0 rfl ?_
  refine sj_iconst (v := 0) dX0_isCoin_1 (by decide) ?_
  refine sj_aload_n 0 dX0_isCoin_2 rfl ?_
  refine sj_iload_n 1 dX0_isCoin_3 rfl ?_
  obtain ⟨fs4, he4, hf⟩ := sd_isC_some hf
  refine sj_xI (rest := [.int 0, .ref a3]) (fun _ _ _ e => sj_runV (n := 1) (As := [.int a2]) (rest := [.int 0, .ref a3]) (sX1_isCoin l hl G a1 a2 h _ _ _ e) he4 rfl rfl rfl rfl q2454 q2455 q2456 q116 q2457 (by decide +kernel) rfl rfl ⟨Nat.le_of_ble_eq_true rfl, Nat.le_of_ble_eq_true rfl⟩ rfl (Nat.le_of_ble_eq_true rfl) dX0_isCoin_4) hf (fun e4 h c hf => ?_) (fun r1 h c hf => ?_)
  · obtain ⟨ci4, fs4, he4, hf⟩ := sd_own_some hf
    by_cases z4_50 : ci4 = 50
    · rw [if_pos z4_50] at hf; subst z4_50
      refine sj_catch (tableOf []) ({ startPc := 0, endPc := 16, handlerPc := 19, catchType := 24 }) (tableOf []) he4 rfl rfl (fun z hz => nomatch hz) (by decide) (by decide) q2367 q2399 ?_
      refine sj_astore_n [(3, .ref e4), (0, .ref a1), (1, .int a2), (2, .ref a3)] dX0_isCoin_19 (by decide) rfl ?_
      refine sj_iconst (v := 1) dX0_isCoin_20 (by decide) ?_
      exact sj_iret (o := sd_oI) hf rfl rfl rfl dX0_isCoin_21
    rw [if_neg z4_50] at hf
    cases hf
  refine sj_ifeq 14 hf dX0_isCoin_7 (by decide) (fun g7 hf => ?_) (fun g7 hf => ?_)
  · refine sj_lconst (v := 0) dX0_isCoin_14 (by decide) ?_
    refine sj_last hf dX0_isCoin_15 (fun h hf => ?_)
    refine sj_goto 22 dX0_isCoin_16 (by decide) ?_
    refine sj_iconst (v := 0) dX0_isCoin_22 (by decide) ?_
    exact sj_iret (o := sd_oI) hf rfl rfl rfl dX0_isCoin_23
  · refine sj_lconst (v := 1) dX0_isCoin_10 (by decide) ?_
    refine sj_goto 15 dX0_isCoin_11 (by decide) ?_
    refine sj_last hf dX0_isCoin_15 (fun h hf => ?_)
    refine sj_goto 22 dX0_isCoin_16 (by decide) ?_
    refine sj_iconst (v := 0) dX0_isCoin_22 (by decide) ?_
    exact sj_iret (o := sd_oI) hf rfl rfl rfl dX0_isCoin_23
/-! SofaDigLaw.isFound(LSofaDig;I[J)I -/
abbrev cX0_isFound : ByteArray := method_12_code
def yX0_isFound : MethodName := ⟨RX0, "isFound", "(LSofaDig;I[J)I"⟩
def dkwX0_isFound_0 : List UInt8 := [44, 3, 42, 27, 182, 0, 45, 153, 0, 7, 10, 167, 0, 4, 9, 80, 167, 0, 6, 78, 4, 172, 3, 172]
abbrev dktX0_isFound_0 : List UInt8 := dkwX0_isFound_0 ++ []
theorem dksX0_isFound_0 : cX0_isFound.data.toList.drop 0 = dktX0_isFound_0 := by decide +kernel
theorem dX0_isFound_0 : decode cX0_isFound 0 = .ok (.aload_n 2, 1) := dk_44 (dk_at dksX0_isFound_0 0 rfl rfl)
theorem dX0_isFound_1 : decode cX0_isFound 1 = .ok (.iconst 0, 1) := dk_3 (dk_at dksX0_isFound_0 1 rfl rfl)
theorem dX0_isFound_2 : decode cX0_isFound 2 = .ok (.aload_n 0, 1) := dk_42 (dk_at dksX0_isFound_0 2 rfl rfl)
theorem dX0_isFound_3 : decode cX0_isFound 3 = .ok (.iload_n 1, 1) := dk_27 (dk_at dksX0_isFound_0 3 rfl rfl)
theorem dX0_isFound_4 : decode cX0_isFound 4 = .ok (.invokevirtual 45, 3) := dk_182 0 45 (dk_at dksX0_isFound_0 4 rfl rfl)
theorem dX0_isFound_7 : decode cX0_isFound 7 = .ok (.ifCond .eq 7, 3) := dk_153 0 7 (dk_at dksX0_isFound_0 7 rfl rfl)
theorem dX0_isFound_10 : decode cX0_isFound 10 = .ok (.lconst 1, 1) := dk_10 (dk_at dksX0_isFound_0 10 rfl rfl)
theorem dX0_isFound_11 : decode cX0_isFound 11 = .ok (.goto 4, 3) := dk_167 0 4 (dk_at dksX0_isFound_0 11 rfl rfl)
theorem dX0_isFound_14 : decode cX0_isFound 14 = .ok (.lconst 0, 1) := dk_9 (dk_at dksX0_isFound_0 14 rfl rfl)
theorem dX0_isFound_15 : decode cX0_isFound 15 = .ok (.lastore, 1) := dk_80 (dk_at dksX0_isFound_0 15 rfl rfl)
theorem dX0_isFound_16 : decode cX0_isFound 16 = .ok (.goto 6, 3) := dk_167 0 6 (dk_at dksX0_isFound_0 16 rfl rfl)
theorem dX0_isFound_19 : decode cX0_isFound 19 = .ok (.astore_n 3, 1) := dk_78 (dk_at dksX0_isFound_0 19 rfl rfl)
theorem dX0_isFound_20 : decode cX0_isFound 20 = .ok (.iconst 1, 1) := dk_4 (dk_at dksX0_isFound_0 20 rfl rfl)
theorem dX0_isFound_21 : decode cX0_isFound 21 = .ok (.ireturn, 1) := dk_172 (dk_at dksX0_isFound_0 21 rfl rfl)
theorem dX0_isFound_22 : decode cX0_isFound 22 = .ok (.iconst 0, 1) := dk_3 (dk_at dksX0_isFound_0 22 rfl rfl)
theorem dX0_isFound_23 : decode cX0_isFound 23 = .ok (.ireturn, 1) := dk_172 (dk_at dksX0_isFound_0 23 rfl rfl)
abbrev mX0_isFound : sd_Y := (yX0_isFound, cX0_isFound, 4, some (.int), some [(0, 16, 19, 24)])
def fX0_isFound (G : sd_G) (a1 : Nat) (a2 : Int32) (a3 : Nat) : sd_M Int32 :=
  sd_bnd (sd_isC G 0 a1) fun _ =>
  sd_bx (fX1_isFound G a1 a2) (fun e4 =>
    sd_bnd (sd_own e4) fun k4 =>
    if k4 = 50 then (
      sd_ret 1)
    else sd_fail) fun r1 =>
  if r1 = 0 then (
    sd_bnd (sd_astL a3 0 0) fun _ =>
    sd_ret 0)
  else (
    sd_bnd (sd_astL a3 0 1) fun _ =>
    sd_ret 0)
set_option maxHeartbeats 4000000 in
theorem sX0_isFound (l : Launch) (hl : l.stackTraces = false) (G : sd_G) (a1 : Nat) (a2 : Int32) (a3 : Nat) (h : sd_H) (ρ : Int32) (cT : Nat × Nat) (h2 : sd_H) (hf : fX0_isFound G a1 a2 a3 h = some (ρ, cT, h2)) : sd_Met mX0_isFound ((l, G), (8, 123), [.ref a1, .int a2, .ref a3], (sd_oI ρ, h2), cT) h := by
  refine sd_entryW rfl rfl (Nat.le_of_ble_eq_true rfl) ?_
  show sd_J mX0_isFound ((l, G), (8, 123), [.ref a1, .int a2, .ref a3], (sd_oI ρ, h2), cT) 0 [(0, .ref a1), (1, .int a2), (2, .ref a3)] [] h cT
  unfold fX0_isFound at hf
  refine sj_aload_n 2 dX0_isFound_0 rfl ?_
  refine sj_iconst (v := 0) dX0_isFound_1 (by decide) ?_
  refine sj_aload_n 0 dX0_isFound_2 rfl ?_
  refine sj_iload_n 1 dX0_isFound_3 rfl ?_
  obtain ⟨fs4, he4, hf⟩ := sd_isC_some hf
  refine sj_xI (rest := [.int 0, .ref a3]) (fun _ _ _ e => sj_runV (n := 1) (As := [.int a2]) (rest := [.int 0, .ref a3]) (sX1_isFound l hl G a1 a2 h _ _ _ e) he4 rfl rfl rfl rfl q2478 q2479 q2480 q116 q2481 (by decide +kernel) rfl rfl ⟨Nat.le_of_ble_eq_true rfl, Nat.le_of_ble_eq_true rfl⟩ rfl (Nat.le_of_ble_eq_true rfl) dX0_isFound_4) hf (fun e4 h c hf => ?_) (fun r1 h c hf => ?_)
  · obtain ⟨ci4, fs4, he4, hf⟩ := sd_own_some hf
    by_cases z4_50 : ci4 = 50
    · rw [if_pos z4_50] at hf; subst z4_50
      refine sj_catch (tableOf []) ({ startPc := 0, endPc := 16, handlerPc := 19, catchType := 24 }) (tableOf []) he4 rfl rfl (fun z hz => nomatch hz) (by decide) (by decide) q2367 q2399 ?_
      refine sj_astore_n [(3, .ref e4), (0, .ref a1), (1, .int a2), (2, .ref a3)] dX0_isFound_19 (by decide) rfl ?_
      refine sj_iconst (v := 1) dX0_isFound_20 (by decide) ?_
      exact sj_iret (o := sd_oI) hf rfl rfl rfl dX0_isFound_21
    rw [if_neg z4_50] at hf
    cases hf
  refine sj_ifeq 14 hf dX0_isFound_7 (by decide) (fun g7 hf => ?_) (fun g7 hf => ?_)
  · refine sj_lconst (v := 0) dX0_isFound_14 (by decide) ?_
    refine sj_last hf dX0_isFound_15 (fun h hf => ?_)
    refine sj_goto 22 dX0_isFound_16 (by decide) ?_
    refine sj_iconst (v := 0) dX0_isFound_22 (by decide) ?_
    exact sj_iret (o := sd_oI) hf rfl rfl rfl dX0_isFound_23
  · refine sj_lconst (v := 1) dX0_isFound_10 (by decide) ?_
    refine sj_goto 15 dX0_isFound_11 (by decide) ?_
    refine sj_last hf dX0_isFound_15 (fun h hf => ?_)
    refine sj_goto 22 dX0_isFound_16 (by decide) ?_
    refine sj_iconst (v := 0) dX0_isFound_22 (by decide) ?_
    exact sj_iret (o := sd_oI) hf rfl rfl rfl dX0_isFound_23
/-! SofaDigLaw.isSure(LSofaDig;I[J)I -/
abbrev cX0_isSure : ByteArray := method_13_code
def yX0_isSure : MethodName := ⟨RX0, "isSure", "(LSofaDig;I[J)I"⟩
def dkwX0_isSure_1 : List UInt8 := [172, 3, 172]
abbrev dktX0_isSure_1 : List UInt8 := dkwX0_isSure_1 ++ []
def dkwX0_isSure_0 : List UInt8 := [44, 3, 42, 27, 182, 0, 48, 153, 0, 7, 10, 167, 0, 4, 9, 80, 167, 0, 9, 78, 4, 172, 78, 5]
abbrev dktX0_isSure_0 : List UInt8 := dkwX0_isSure_0 ++ dktX0_isSure_1
theorem dksX0_isSure_0 : cX0_isSure.data.toList.drop 0 = dktX0_isSure_0 := by decide +kernel
theorem dksX0_isSure_1 : cX0_isSure.data.toList.drop 24 = dktX0_isSure_1 := dk_seg dksX0_isSure_0 24 rfl rfl
theorem dX0_isSure_0 : decode cX0_isSure 0 = .ok (.aload_n 2, 1) := dk_44 (dk_at dksX0_isSure_0 0 rfl rfl)
theorem dX0_isSure_1 : decode cX0_isSure 1 = .ok (.iconst 0, 1) := dk_3 (dk_at dksX0_isSure_0 1 rfl rfl)
theorem dX0_isSure_2 : decode cX0_isSure 2 = .ok (.aload_n 0, 1) := dk_42 (dk_at dksX0_isSure_0 2 rfl rfl)
theorem dX0_isSure_3 : decode cX0_isSure 3 = .ok (.iload_n 1, 1) := dk_27 (dk_at dksX0_isSure_0 3 rfl rfl)
theorem dX0_isSure_4 : decode cX0_isSure 4 = .ok (.invokevirtual 48, 3) := dk_182 0 48 (dk_at dksX0_isSure_0 4 rfl rfl)
theorem dX0_isSure_7 : decode cX0_isSure 7 = .ok (.ifCond .eq 7, 3) := dk_153 0 7 (dk_at dksX0_isSure_0 7 rfl rfl)
theorem dX0_isSure_10 : decode cX0_isSure 10 = .ok (.lconst 1, 1) := dk_10 (dk_at dksX0_isSure_0 10 rfl rfl)
theorem dX0_isSure_11 : decode cX0_isSure 11 = .ok (.goto 4, 3) := dk_167 0 4 (dk_at dksX0_isSure_0 11 rfl rfl)
theorem dX0_isSure_14 : decode cX0_isSure 14 = .ok (.lconst 0, 1) := dk_9 (dk_at dksX0_isSure_0 14 rfl rfl)
theorem dX0_isSure_15 : decode cX0_isSure 15 = .ok (.lastore, 1) := dk_80 (dk_at dksX0_isSure_0 15 rfl rfl)
theorem dX0_isSure_16 : decode cX0_isSure 16 = .ok (.goto 9, 3) := dk_167 0 9 (dk_at dksX0_isSure_0 16 rfl rfl)
theorem dX0_isSure_19 : decode cX0_isSure 19 = .ok (.astore_n 3, 1) := dk_78 (dk_at dksX0_isSure_0 19 rfl rfl)
theorem dX0_isSure_20 : decode cX0_isSure 20 = .ok (.iconst 1, 1) := dk_4 (dk_at dksX0_isSure_0 20 rfl rfl)
theorem dX0_isSure_21 : decode cX0_isSure 21 = .ok (.ireturn, 1) := dk_172 (dk_at dksX0_isSure_0 21 rfl rfl)
theorem dX0_isSure_22 : decode cX0_isSure 22 = .ok (.astore_n 3, 1) := dk_78 (dk_at dksX0_isSure_0 22 rfl rfl)
theorem dX0_isSure_23 : decode cX0_isSure 23 = .ok (.iconst 2, 1) := dk_5 (dk_at dksX0_isSure_0 23 rfl rfl)
theorem dX0_isSure_24 : decode cX0_isSure 24 = .ok (.ireturn, 1) := dk_172 (dk_at dksX0_isSure_1 0 rfl rfl)
theorem dX0_isSure_25 : decode cX0_isSure 25 = .ok (.iconst 0, 1) := dk_3 (dk_at dksX0_isSure_1 1 rfl rfl)
theorem dX0_isSure_26 : decode cX0_isSure 26 = .ok (.ireturn, 1) := dk_172 (dk_at dksX0_isSure_1 2 rfl rfl)
abbrev mX0_isSure : sd_Y := (yX0_isSure, cX0_isSure, 4, some (.int), some [(0, 16, 19, 24), (0, 16, 22, 13)])
def fX0_isSure (G : sd_G) (a1 : Nat) (a2 : Int32) (a3 : Nat) : sd_M Int32 :=
  sd_bnd (sd_isC G 0 a1) fun _ =>
  sd_bx (fX1_isSure G a1 a2) (fun e4 =>
    sd_bnd (sd_own e4) fun k4 =>
    if k4 = 50 then (
      sd_ret 1)
    else if k4 = 48 then (
      sd_ret 2)
    else sd_fail) fun r1 =>
  if r1 = 0 then (
    sd_bnd (sd_astL a3 0 0) fun _ =>
    sd_ret 0)
  else (
    sd_bnd (sd_astL a3 0 1) fun _ =>
    sd_ret 0)
set_option maxHeartbeats 4000000 in
theorem sX0_isSure (l : Launch) (hl : l.stackTraces = false) (G : sd_G) (a1 : Nat) (a2 : Int32) (a3 : Nat) (h : sd_H) (ρ : Int32) (cT : Nat × Nat) (h2 : sd_H) (hf : fX0_isSure G a1 a2 a3 h = some (ρ, cT, h2)) : sd_Met mX0_isSure ((l, G), (9, 144), [.ref a1, .int a2, .ref a3], (sd_oI ρ, h2), cT) h := by
  refine sd_entryW rfl rfl (Nat.le_of_ble_eq_true rfl) ?_
  show sd_J mX0_isSure ((l, G), (9, 144), [.ref a1, .int a2, .ref a3], (sd_oI ρ, h2), cT) 0 [(0, .ref a1), (1, .int a2), (2, .ref a3)] [] h cT
  unfold fX0_isSure at hf
  refine sj_aload_n 2 dX0_isSure_0 rfl ?_
  refine sj_iconst (v := 0) dX0_isSure_1 (by decide) ?_
  refine sj_aload_n 0 dX0_isSure_2 rfl ?_
  refine sj_iload_n 1 dX0_isSure_3 rfl ?_
  obtain ⟨fs4, he4, hf⟩ := sd_isC_some hf
  refine sj_xI (rest := [.int 0, .ref a3]) (fun _ _ _ e => sj_runV (n := 1) (As := [.int a2]) (rest := [.int 0, .ref a3]) (sX1_isSure l hl G a1 a2 h _ _ _ e) he4 rfl rfl rfl rfl q2485 q2486 q2487 q116 q2488 (by decide +kernel) rfl rfl ⟨Nat.le_of_ble_eq_true rfl, Nat.le_of_ble_eq_true rfl⟩ rfl (Nat.le_of_ble_eq_true rfl) dX0_isSure_4) hf (fun e4 h c hf => ?_) (fun r1 h c hf => ?_)
  · obtain ⟨ci4, fs4, he4, hf⟩ := sd_own_some hf
    by_cases z4_50 : ci4 = 50
    · rw [if_pos z4_50] at hf; subst z4_50
      refine sj_catch (tableOf []) ({ startPc := 0, endPc := 16, handlerPc := 19, catchType := 24 }) (tableOf [(0, 16, 22, 13)]) he4 rfl rfl (fun z hz => nomatch hz) (by decide) (by decide) q2367 q2399 ?_
      refine sj_astore_n [(3, .ref e4), (0, .ref a1), (1, .int a2), (2, .ref a3)] dX0_isSure_19 (by decide) rfl ?_
      refine sj_iconst (v := 1) dX0_isSure_20 (by decide) ?_
      exact sj_iret (o := sd_oI) hf rfl rfl rfl dX0_isSure_21
    rw [if_neg z4_50] at hf
    by_cases z4_48 : ci4 = 48
    · rw [if_pos z4_48] at hf; subst z4_48
      refine sj_catch (tableOf [(0, 16, 19, 24)]) ({ startPc := 0, endPc := 16, handlerPc := 22, catchType := 13 }) (tableOf []) he4 rfl rfl (fun z hz => by rw [List.mem_singleton.mp hz]; exact Or.inr ⟨by decide, _, q2367, by decide⟩) (by decide) (by decide) q2315 q2325 ?_
      refine sj_astore_n [(3, .ref e4), (0, .ref a1), (1, .int a2), (2, .ref a3)] dX0_isSure_22 (by decide) rfl ?_
      refine sj_iconst (v := 2) dX0_isSure_23 (by decide) ?_
      exact sj_iret (o := sd_oI) hf rfl rfl rfl dX0_isSure_24
    rw [if_neg z4_48] at hf
    cases hf
  refine sj_ifeq 14 hf dX0_isSure_7 (by decide) (fun g7 hf => ?_) (fun g7 hf => ?_)
  · refine sj_lconst (v := 0) dX0_isSure_14 (by decide) ?_
    refine sj_last hf dX0_isSure_15 (fun h hf => ?_)
    refine sj_goto 25 dX0_isSure_16 (by decide) ?_
    refine sj_iconst (v := 0) dX0_isSure_25 (by decide) ?_
    exact sj_iret (o := sd_oI) hf rfl rfl rfl dX0_isSure_26
  · refine sj_lconst (v := 1) dX0_isSure_10 (by decide) ?_
    refine sj_goto 15 dX0_isSure_11 (by decide) ?_
    refine sj_last hf dX0_isSure_15 (fun h hf => ?_)
    refine sj_goto 25 dX0_isSure_16 (by decide) ?_
    refine sj_iconst (v := 0) dX0_isSure_25 (by decide) ?_
    exact sj_iret (o := sd_oI) hf rfl rfl rfl dX0_isSure_26
/-! SofaDigLaw.stratumOf(LSofaDig;I[J)I -/
abbrev cX0_stratumOf : ByteArray := method_14_code
def yX0_stratumOf : MethodName := ⟨RX0, "stratumOf", "(LSofaDig;I[J)I"⟩
def dkwX0_stratumOf_0 : List UInt8 := [44, 3, 42, 27, 182, 0, 51, 133, 80, 167, 0, 6, 78, 4, 172, 3, 172]
abbrev dktX0_stratumOf_0 : List UInt8 := dkwX0_stratumOf_0 ++ []
theorem dksX0_stratumOf_0 : cX0_stratumOf.data.toList.drop 0 = dktX0_stratumOf_0 := by decide +kernel
theorem dX0_stratumOf_0 : decode cX0_stratumOf 0 = .ok (.aload_n 2, 1) := dk_44 (dk_at dksX0_stratumOf_0 0 rfl rfl)
theorem dX0_stratumOf_1 : decode cX0_stratumOf 1 = .ok (.iconst 0, 1) := dk_3 (dk_at dksX0_stratumOf_0 1 rfl rfl)
theorem dX0_stratumOf_2 : decode cX0_stratumOf 2 = .ok (.aload_n 0, 1) := dk_42 (dk_at dksX0_stratumOf_0 2 rfl rfl)
theorem dX0_stratumOf_3 : decode cX0_stratumOf 3 = .ok (.iload_n 1, 1) := dk_27 (dk_at dksX0_stratumOf_0 3 rfl rfl)
theorem dX0_stratumOf_4 : decode cX0_stratumOf 4 = .ok (.invokevirtual 51, 3) := dk_182 0 51 (dk_at dksX0_stratumOf_0 4 rfl rfl)
theorem dX0_stratumOf_7 : decode cX0_stratumOf 7 = .ok (.i2l, 1) := dk_133 (dk_at dksX0_stratumOf_0 7 rfl rfl)
theorem dX0_stratumOf_8 : decode cX0_stratumOf 8 = .ok (.lastore, 1) := dk_80 (dk_at dksX0_stratumOf_0 8 rfl rfl)
theorem dX0_stratumOf_9 : decode cX0_stratumOf 9 = .ok (.goto 6, 3) := dk_167 0 6 (dk_at dksX0_stratumOf_0 9 rfl rfl)
theorem dX0_stratumOf_12 : decode cX0_stratumOf 12 = .ok (.astore_n 3, 1) := dk_78 (dk_at dksX0_stratumOf_0 12 rfl rfl)
theorem dX0_stratumOf_13 : decode cX0_stratumOf 13 = .ok (.iconst 1, 1) := dk_4 (dk_at dksX0_stratumOf_0 13 rfl rfl)
theorem dX0_stratumOf_14 : decode cX0_stratumOf 14 = .ok (.ireturn, 1) := dk_172 (dk_at dksX0_stratumOf_0 14 rfl rfl)
theorem dX0_stratumOf_15 : decode cX0_stratumOf 15 = .ok (.iconst 0, 1) := dk_3 (dk_at dksX0_stratumOf_0 15 rfl rfl)
theorem dX0_stratumOf_16 : decode cX0_stratumOf 16 = .ok (.ireturn, 1) := dk_172 (dk_at dksX0_stratumOf_0 16 rfl rfl)
abbrev mX0_stratumOf : sd_Y := (yX0_stratumOf, cX0_stratumOf, 4, some (.int), some [(0, 9, 12, 24)])
def fX0_stratumOf (G : sd_G) (a1 : Nat) (a2 : Int32) (a3 : Nat) : sd_M Int32 :=
  sd_bnd (sd_isC G 0 a1) fun _ =>
  sd_bx (fX1_stratumOf G a1 a2) (fun e4 =>
    sd_bnd (sd_own e4) fun k4 =>
    if k4 = 50 then (
      sd_ret 1)
    else sd_fail) fun r1 =>
  sd_bnd (sd_astL a3 0 (r1.toInt64)) fun _ =>
  sd_ret 0
set_option maxHeartbeats 4000000 in
theorem sX0_stratumOf (l : Launch) (hl : l.stackTraces = false) (G : sd_G) (a1 : Nat) (a2 : Int32) (a3 : Nat) (h : sd_H) (ρ : Int32) (cT : Nat × Nat) (h2 : sd_H) (hf : fX0_stratumOf G a1 a2 a3 h = some (ρ, cT, h2)) : sd_Met mX0_stratumOf ((l, G), (10, 165), [.ref a1, .int a2, .ref a3], (sd_oI ρ, h2), cT) h := by
  refine sd_entryW rfl rfl (Nat.le_of_ble_eq_true rfl) ?_
  show sd_J mX0_stratumOf ((l, G), (10, 165), [.ref a1, .int a2, .ref a3], (sd_oI ρ, h2), cT) 0 [(0, .ref a1), (1, .int a2), (2, .ref a3)] [] h cT
  unfold fX0_stratumOf at hf
  refine sj_aload_n 2 dX0_stratumOf_0 rfl ?_
  refine sj_iconst (v := 0) dX0_stratumOf_1 (by decide) ?_
  refine sj_aload_n 0 dX0_stratumOf_2 rfl ?_
  refine sj_iload_n 1 dX0_stratumOf_3 rfl ?_
  obtain ⟨fs4, he4, hf⟩ := sd_isC_some hf
  refine sj_xI (rest := [.int 0, .ref a3]) (fun _ _ _ e => sj_runV (n := 1) (As := [.int a2]) (rest := [.int 0, .ref a3]) (sX1_stratumOf l hl G a1 a2 h _ _ _ e) he4 rfl rfl rfl rfl q2493 q2494 q2495 q116 q2496 (by decide +kernel) rfl rfl ⟨Nat.le_of_ble_eq_true rfl, Nat.le_of_ble_eq_true rfl⟩ rfl (Nat.le_of_ble_eq_true rfl) dX0_stratumOf_4) hf (fun e4 h c hf => ?_) (fun r1 h c hf => ?_)
  · obtain ⟨ci4, fs4, he4, hf⟩ := sd_own_some hf
    by_cases z4_50 : ci4 = 50
    · rw [if_pos z4_50] at hf; subst z4_50
      refine sj_catch (tableOf []) ({ startPc := 0, endPc := 9, handlerPc := 12, catchType := 24 }) (tableOf []) he4 rfl rfl (fun z hz => nomatch hz) (by decide) (by decide) q2367 q2399 ?_
      refine sj_astore_n [(3, .ref e4), (0, .ref a1), (1, .int a2), (2, .ref a3)] dX0_stratumOf_12 (by decide) rfl ?_
      refine sj_iconst (v := 1) dX0_stratumOf_13 (by decide) ?_
      exact sj_iret (o := sd_oI) hf rfl rfl rfl dX0_stratumOf_14
    rw [if_neg z4_50] at hf
    cases hf
  refine sj_i2l dX0_stratumOf_7 ?_
  refine sj_last hf dX0_stratumOf_8 (fun h hf => ?_)
  refine sj_goto 15 dX0_stratumOf_9 (by decide) ?_
  refine sj_iconst (v := 0) dX0_stratumOf_15 (by decide) ?_
  exact sj_iret (o := sd_oI) hf rfl rfl rfl dX0_stratumOf_16
/-! SofaDigLaw.yearOf(LSofaDig;I[J)I -/
abbrev cX0_yearOf : ByteArray := method_15_code
def yX0_yearOf : MethodName := ⟨RX0, "yearOf", "(LSofaDig;I[J)I"⟩
def dkwX0_yearOf_0 : List UInt8 := [44, 3, 42, 27, 182, 0, 54, 133, 80, 167, 0, 9, 78, 4, 172, 78, 5, 172, 3, 172]
abbrev dktX0_yearOf_0 : List UInt8 := dkwX0_yearOf_0 ++ []
theorem dksX0_yearOf_0 : cX0_yearOf.data.toList.drop 0 = dktX0_yearOf_0 := by decide +kernel
theorem dX0_yearOf_0 : decode cX0_yearOf 0 = .ok (.aload_n 2, 1) := dk_44 (dk_at dksX0_yearOf_0 0 rfl rfl)
theorem dX0_yearOf_1 : decode cX0_yearOf 1 = .ok (.iconst 0, 1) := dk_3 (dk_at dksX0_yearOf_0 1 rfl rfl)
theorem dX0_yearOf_2 : decode cX0_yearOf 2 = .ok (.aload_n 0, 1) := dk_42 (dk_at dksX0_yearOf_0 2 rfl rfl)
theorem dX0_yearOf_3 : decode cX0_yearOf 3 = .ok (.iload_n 1, 1) := dk_27 (dk_at dksX0_yearOf_0 3 rfl rfl)
theorem dX0_yearOf_4 : decode cX0_yearOf 4 = .ok (.invokevirtual 54, 3) := dk_182 0 54 (dk_at dksX0_yearOf_0 4 rfl rfl)
theorem dX0_yearOf_7 : decode cX0_yearOf 7 = .ok (.i2l, 1) := dk_133 (dk_at dksX0_yearOf_0 7 rfl rfl)
theorem dX0_yearOf_8 : decode cX0_yearOf 8 = .ok (.lastore, 1) := dk_80 (dk_at dksX0_yearOf_0 8 rfl rfl)
theorem dX0_yearOf_9 : decode cX0_yearOf 9 = .ok (.goto 9, 3) := dk_167 0 9 (dk_at dksX0_yearOf_0 9 rfl rfl)
theorem dX0_yearOf_12 : decode cX0_yearOf 12 = .ok (.astore_n 3, 1) := dk_78 (dk_at dksX0_yearOf_0 12 rfl rfl)
theorem dX0_yearOf_13 : decode cX0_yearOf 13 = .ok (.iconst 1, 1) := dk_4 (dk_at dksX0_yearOf_0 13 rfl rfl)
theorem dX0_yearOf_14 : decode cX0_yearOf 14 = .ok (.ireturn, 1) := dk_172 (dk_at dksX0_yearOf_0 14 rfl rfl)
theorem dX0_yearOf_15 : decode cX0_yearOf 15 = .ok (.astore_n 3, 1) := dk_78 (dk_at dksX0_yearOf_0 15 rfl rfl)
theorem dX0_yearOf_16 : decode cX0_yearOf 16 = .ok (.iconst 2, 1) := dk_5 (dk_at dksX0_yearOf_0 16 rfl rfl)
theorem dX0_yearOf_17 : decode cX0_yearOf 17 = .ok (.ireturn, 1) := dk_172 (dk_at dksX0_yearOf_0 17 rfl rfl)
theorem dX0_yearOf_18 : decode cX0_yearOf 18 = .ok (.iconst 0, 1) := dk_3 (dk_at dksX0_yearOf_0 18 rfl rfl)
theorem dX0_yearOf_19 : decode cX0_yearOf 19 = .ok (.ireturn, 1) := dk_172 (dk_at dksX0_yearOf_0 19 rfl rfl)
abbrev mX0_yearOf : sd_Y := (yX0_yearOf, cX0_yearOf, 4, some (.int), some [(0, 9, 12, 24), (0, 9, 15, 13)])
def fX0_yearOf (G : sd_G) (a1 : Nat) (a2 : Int32) (a3 : Nat) : sd_M Int32 :=
  sd_bnd (sd_isC G 0 a1) fun _ =>
  sd_bx (fX1_yearOf G a1 a2) (fun e4 =>
    sd_bnd (sd_own e4) fun k4 =>
    if k4 = 50 then (
      sd_ret 1)
    else if k4 = 48 then (
      sd_ret 2)
    else sd_fail) fun r1 =>
  sd_bnd (sd_astL a3 0 (r1.toInt64)) fun _ =>
  sd_ret 0
set_option maxHeartbeats 4000000 in
theorem sX0_yearOf (l : Launch) (hl : l.stackTraces = false) (G : sd_G) (a1 : Nat) (a2 : Int32) (a3 : Nat) (h : sd_H) (ρ : Int32) (cT : Nat × Nat) (h2 : sd_H) (hf : fX0_yearOf G a1 a2 a3 h = some (ρ, cT, h2)) : sd_Met mX0_yearOf ((l, G), (10, 165), [.ref a1, .int a2, .ref a3], (sd_oI ρ, h2), cT) h := by
  refine sd_entryW rfl rfl (Nat.le_of_ble_eq_true rfl) ?_
  show sd_J mX0_yearOf ((l, G), (10, 165), [.ref a1, .int a2, .ref a3], (sd_oI ρ, h2), cT) 0 [(0, .ref a1), (1, .int a2), (2, .ref a3)] [] h cT
  unfold fX0_yearOf at hf
  refine sj_aload_n 2 dX0_yearOf_0 rfl ?_
  refine sj_iconst (v := 0) dX0_yearOf_1 (by decide) ?_
  refine sj_aload_n 0 dX0_yearOf_2 rfl ?_
  refine sj_iload_n 1 dX0_yearOf_3 rfl ?_
  obtain ⟨fs4, he4, hf⟩ := sd_isC_some hf
  refine sj_xI (rest := [.int 0, .ref a3]) (fun _ _ _ e => sj_runV (n := 1) (As := [.int a2]) (rest := [.int 0, .ref a3]) (sX1_yearOf l hl G a1 a2 h _ _ _ e) he4 rfl rfl rfl rfl q2500 q2501 q2502 q116 q2503 (by decide +kernel) rfl rfl ⟨Nat.le_of_ble_eq_true rfl, Nat.le_of_ble_eq_true rfl⟩ rfl (Nat.le_of_ble_eq_true rfl) dX0_yearOf_4) hf (fun e4 h c hf => ?_) (fun r1 h c hf => ?_)
  · obtain ⟨ci4, fs4, he4, hf⟩ := sd_own_some hf
    by_cases z4_50 : ci4 = 50
    · rw [if_pos z4_50] at hf; subst z4_50
      refine sj_catch (tableOf []) ({ startPc := 0, endPc := 9, handlerPc := 12, catchType := 24 }) (tableOf [(0, 9, 15, 13)]) he4 rfl rfl (fun z hz => nomatch hz) (by decide) (by decide) q2367 q2399 ?_
      refine sj_astore_n [(3, .ref e4), (0, .ref a1), (1, .int a2), (2, .ref a3)] dX0_yearOf_12 (by decide) rfl ?_
      refine sj_iconst (v := 1) dX0_yearOf_13 (by decide) ?_
      exact sj_iret (o := sd_oI) hf rfl rfl rfl dX0_yearOf_14
    rw [if_neg z4_50] at hf
    by_cases z4_48 : ci4 = 48
    · rw [if_pos z4_48] at hf; subst z4_48
      refine sj_catch (tableOf [(0, 9, 12, 24)]) ({ startPc := 0, endPc := 9, handlerPc := 15, catchType := 13 }) (tableOf []) he4 rfl rfl (fun z hz => by rw [List.mem_singleton.mp hz]; exact Or.inr ⟨by decide, _, q2367, by decide⟩) (by decide) (by decide) q2315 q2325 ?_
      refine sj_astore_n [(3, .ref e4), (0, .ref a1), (1, .int a2), (2, .ref a3)] dX0_yearOf_15 (by decide) rfl ?_
      refine sj_iconst (v := 2) dX0_yearOf_16 (by decide) ?_
      exact sj_iret (o := sd_oI) hf rfl rfl rfl dX0_yearOf_17
    rw [if_neg z4_48] at hf
    cases hf
  refine sj_i2l dX0_yearOf_7 ?_
  refine sj_last hf dX0_yearOf_8 (fun h hf => ?_)
  refine sj_goto 18 dX0_yearOf_9 (by decide) ?_
  refine sj_iconst (v := 0) dX0_yearOf_18 (by decide) ?_
  exact sj_iret (o := sd_oI) hf rfl rfl rfl dX0_yearOf_19
/-! SofaDigLaw.empireOf(LSofaDig;I[J)I -/
abbrev cX0_empireOf : ByteArray := method_16_code
def yX0_empireOf : MethodName := ⟨RX0, "empireOf", "(LSofaDig;I[J)I"⟩
def dkwX0_empireOf_0 : List UInt8 := [44, 3, 42, 27, 182, 0, 57, 133, 80, 167, 0, 9, 78, 4, 172, 78, 5, 172, 3, 172]
abbrev dktX0_empireOf_0 : List UInt8 := dkwX0_empireOf_0 ++ []
theorem dksX0_empireOf_0 : cX0_empireOf.data.toList.drop 0 = dktX0_empireOf_0 := by decide +kernel
theorem dX0_empireOf_0 : decode cX0_empireOf 0 = .ok (.aload_n 2, 1) := dk_44 (dk_at dksX0_empireOf_0 0 rfl rfl)
theorem dX0_empireOf_1 : decode cX0_empireOf 1 = .ok (.iconst 0, 1) := dk_3 (dk_at dksX0_empireOf_0 1 rfl rfl)
theorem dX0_empireOf_2 : decode cX0_empireOf 2 = .ok (.aload_n 0, 1) := dk_42 (dk_at dksX0_empireOf_0 2 rfl rfl)
theorem dX0_empireOf_3 : decode cX0_empireOf 3 = .ok (.iload_n 1, 1) := dk_27 (dk_at dksX0_empireOf_0 3 rfl rfl)
theorem dX0_empireOf_4 : decode cX0_empireOf 4 = .ok (.invokevirtual 57, 3) := dk_182 0 57 (dk_at dksX0_empireOf_0 4 rfl rfl)
theorem dX0_empireOf_7 : decode cX0_empireOf 7 = .ok (.i2l, 1) := dk_133 (dk_at dksX0_empireOf_0 7 rfl rfl)
theorem dX0_empireOf_8 : decode cX0_empireOf 8 = .ok (.lastore, 1) := dk_80 (dk_at dksX0_empireOf_0 8 rfl rfl)
theorem dX0_empireOf_9 : decode cX0_empireOf 9 = .ok (.goto 9, 3) := dk_167 0 9 (dk_at dksX0_empireOf_0 9 rfl rfl)
theorem dX0_empireOf_12 : decode cX0_empireOf 12 = .ok (.astore_n 3, 1) := dk_78 (dk_at dksX0_empireOf_0 12 rfl rfl)
theorem dX0_empireOf_13 : decode cX0_empireOf 13 = .ok (.iconst 1, 1) := dk_4 (dk_at dksX0_empireOf_0 13 rfl rfl)
theorem dX0_empireOf_14 : decode cX0_empireOf 14 = .ok (.ireturn, 1) := dk_172 (dk_at dksX0_empireOf_0 14 rfl rfl)
theorem dX0_empireOf_15 : decode cX0_empireOf 15 = .ok (.astore_n 3, 1) := dk_78 (dk_at dksX0_empireOf_0 15 rfl rfl)
theorem dX0_empireOf_16 : decode cX0_empireOf 16 = .ok (.iconst 2, 1) := dk_5 (dk_at dksX0_empireOf_0 16 rfl rfl)
theorem dX0_empireOf_17 : decode cX0_empireOf 17 = .ok (.ireturn, 1) := dk_172 (dk_at dksX0_empireOf_0 17 rfl rfl)
theorem dX0_empireOf_18 : decode cX0_empireOf 18 = .ok (.iconst 0, 1) := dk_3 (dk_at dksX0_empireOf_0 18 rfl rfl)
theorem dX0_empireOf_19 : decode cX0_empireOf 19 = .ok (.ireturn, 1) := dk_172 (dk_at dksX0_empireOf_0 19 rfl rfl)
abbrev mX0_empireOf : sd_Y := (yX0_empireOf, cX0_empireOf, 4, some (.int), some [(0, 9, 12, 24), (0, 9, 15, 13)])
def fX0_empireOf (G : sd_G) (a1 : Nat) (a2 : Int32) (a3 : Nat) : sd_M Int32 :=
  sd_bnd (sd_isC G 0 a1) fun _ =>
  sd_bx (fX1_empireOf G a1 a2) (fun e4 =>
    sd_bnd (sd_own e4) fun k4 =>
    if k4 = 50 then (
      sd_ret 1)
    else if k4 = 48 then (
      sd_ret 2)
    else sd_fail) fun r1 =>
  sd_bnd (sd_astL a3 0 (r1.toInt64)) fun _ =>
  sd_ret 0
set_option maxHeartbeats 4000000 in
theorem sX0_empireOf (l : Launch) (hl : l.stackTraces = false) (G : sd_G) (a1 : Nat) (a2 : Int32) (a3 : Nat) (h : sd_H) (ρ : Int32) (cT : Nat × Nat) (h2 : sd_H) (hf : fX0_empireOf G a1 a2 a3 h = some (ρ, cT, h2)) : sd_Met mX0_empireOf ((l, G), (10, 165), [.ref a1, .int a2, .ref a3], (sd_oI ρ, h2), cT) h := by
  refine sd_entryW rfl rfl (Nat.le_of_ble_eq_true rfl) ?_
  show sd_J mX0_empireOf ((l, G), (10, 165), [.ref a1, .int a2, .ref a3], (sd_oI ρ, h2), cT) 0 [(0, .ref a1), (1, .int a2), (2, .ref a3)] [] h cT
  unfold fX0_empireOf at hf
  refine sj_aload_n 2 dX0_empireOf_0 rfl ?_
  refine sj_iconst (v := 0) dX0_empireOf_1 (by decide) ?_
  refine sj_aload_n 0 dX0_empireOf_2 rfl ?_
  refine sj_iload_n 1 dX0_empireOf_3 rfl ?_
  obtain ⟨fs4, he4, hf⟩ := sd_isC_some hf
  refine sj_xI (rest := [.int 0, .ref a3]) (fun _ _ _ e => sj_runV (n := 1) (As := [.int a2]) (rest := [.int 0, .ref a3]) (sX1_empireOf l hl G a1 a2 h _ _ _ e) he4 rfl rfl rfl rfl q2507 q2508 q2509 q116 q2510 (by decide +kernel) rfl rfl ⟨Nat.le_of_ble_eq_true rfl, Nat.le_of_ble_eq_true rfl⟩ rfl (Nat.le_of_ble_eq_true rfl) dX0_empireOf_4) hf (fun e4 h c hf => ?_) (fun r1 h c hf => ?_)
  · obtain ⟨ci4, fs4, he4, hf⟩ := sd_own_some hf
    by_cases z4_50 : ci4 = 50
    · rw [if_pos z4_50] at hf; subst z4_50
      refine sj_catch (tableOf []) ({ startPc := 0, endPc := 9, handlerPc := 12, catchType := 24 }) (tableOf [(0, 9, 15, 13)]) he4 rfl rfl (fun z hz => nomatch hz) (by decide) (by decide) q2367 q2399 ?_
      refine sj_astore_n [(3, .ref e4), (0, .ref a1), (1, .int a2), (2, .ref a3)] dX0_empireOf_12 (by decide) rfl ?_
      refine sj_iconst (v := 1) dX0_empireOf_13 (by decide) ?_
      exact sj_iret (o := sd_oI) hf rfl rfl rfl dX0_empireOf_14
    rw [if_neg z4_50] at hf
    by_cases z4_48 : ci4 = 48
    · rw [if_pos z4_48] at hf; subst z4_48
      refine sj_catch (tableOf [(0, 9, 12, 24)]) ({ startPc := 0, endPc := 9, handlerPc := 15, catchType := 13 }) (tableOf []) he4 rfl rfl (fun z hz => by rw [List.mem_singleton.mp hz]; exact Or.inr ⟨by decide, _, q2367, by decide⟩) (by decide) (by decide) q2315 q2325 ?_
      refine sj_astore_n [(3, .ref e4), (0, .ref a1), (1, .int a2), (2, .ref a3)] dX0_empireOf_15 (by decide) rfl ?_
      refine sj_iconst (v := 2) dX0_empireOf_16 (by decide) ?_
      exact sj_iret (o := sd_oI) hf rfl rfl rfl dX0_empireOf_17
    rw [if_neg z4_48] at hf
    cases hf
  refine sj_i2l dX0_empireOf_7 ?_
  refine sj_last hf dX0_empireOf_8 (fun h hf => ?_)
  refine sj_goto 18 dX0_empireOf_9 (by decide) ?_
  refine sj_iconst (v := 0) dX0_empireOf_18 (by decide) ?_
  exact sj_iret (o := sd_oI) hf rfl rfl rfl dX0_empireOf_19
/-! SofaDigLaw.buriedUnder(LSofaDig;I[J)I -/
abbrev cX0_buriedUnder : ByteArray := method_17_code
def yX0_buriedUnder : MethodName := ⟨RX0, "buriedUnder", "(LSofaDig;I[J)I"⟩
def dkwX0_buriedUnder_0 : List UInt8 := [44, 3, 42, 27, 182, 0, 60, 133, 80, 167, 0, 9, 78, 4, 172, 78, 5, 172, 3, 172]
abbrev dktX0_buriedUnder_0 : List UInt8 := dkwX0_buriedUnder_0 ++ []
theorem dksX0_buriedUnder_0 : cX0_buriedUnder.data.toList.drop 0 = dktX0_buriedUnder_0 := by decide +kernel
theorem dX0_buriedUnder_0 : decode cX0_buriedUnder 0 = .ok (.aload_n 2, 1) := dk_44 (dk_at dksX0_buriedUnder_0 0 rfl rfl)
theorem dX0_buriedUnder_1 : decode cX0_buriedUnder 1 = .ok (.iconst 0, 1) := dk_3 (dk_at dksX0_buriedUnder_0 1 rfl rfl)
theorem dX0_buriedUnder_2 : decode cX0_buriedUnder 2 = .ok (.aload_n 0, 1) := dk_42 (dk_at dksX0_buriedUnder_0 2 rfl rfl)
theorem dX0_buriedUnder_3 : decode cX0_buriedUnder 3 = .ok (.iload_n 1, 1) := dk_27 (dk_at dksX0_buriedUnder_0 3 rfl rfl)
theorem dX0_buriedUnder_4 : decode cX0_buriedUnder 4 = .ok (.invokevirtual 60, 3) := dk_182 0 60 (dk_at dksX0_buriedUnder_0 4 rfl rfl)
theorem dX0_buriedUnder_7 : decode cX0_buriedUnder 7 = .ok (.i2l, 1) := dk_133 (dk_at dksX0_buriedUnder_0 7 rfl rfl)
theorem dX0_buriedUnder_8 : decode cX0_buriedUnder 8 = .ok (.lastore, 1) := dk_80 (dk_at dksX0_buriedUnder_0 8 rfl rfl)
theorem dX0_buriedUnder_9 : decode cX0_buriedUnder 9 = .ok (.goto 9, 3) := dk_167 0 9 (dk_at dksX0_buriedUnder_0 9 rfl rfl)
theorem dX0_buriedUnder_12 : decode cX0_buriedUnder 12 = .ok (.astore_n 3, 1) := dk_78 (dk_at dksX0_buriedUnder_0 12 rfl rfl)
theorem dX0_buriedUnder_13 : decode cX0_buriedUnder 13 = .ok (.iconst 1, 1) := dk_4 (dk_at dksX0_buriedUnder_0 13 rfl rfl)
theorem dX0_buriedUnder_14 : decode cX0_buriedUnder 14 = .ok (.ireturn, 1) := dk_172 (dk_at dksX0_buriedUnder_0 14 rfl rfl)
theorem dX0_buriedUnder_15 : decode cX0_buriedUnder 15 = .ok (.astore_n 3, 1) := dk_78 (dk_at dksX0_buriedUnder_0 15 rfl rfl)
theorem dX0_buriedUnder_16 : decode cX0_buriedUnder 16 = .ok (.iconst 2, 1) := dk_5 (dk_at dksX0_buriedUnder_0 16 rfl rfl)
theorem dX0_buriedUnder_17 : decode cX0_buriedUnder 17 = .ok (.ireturn, 1) := dk_172 (dk_at dksX0_buriedUnder_0 17 rfl rfl)
theorem dX0_buriedUnder_18 : decode cX0_buriedUnder 18 = .ok (.iconst 0, 1) := dk_3 (dk_at dksX0_buriedUnder_0 18 rfl rfl)
theorem dX0_buriedUnder_19 : decode cX0_buriedUnder 19 = .ok (.ireturn, 1) := dk_172 (dk_at dksX0_buriedUnder_0 19 rfl rfl)
abbrev mX0_buriedUnder : sd_Y := (yX0_buriedUnder, cX0_buriedUnder, 4, some (.int), some [(0, 9, 12, 24), (0, 9, 15, 13)])
def fX0_buriedUnder (G : sd_G) (a1 : Nat) (a2 : Int32) (a3 : Nat) : sd_M Int32 :=
  sd_bnd (sd_isC G 0 a1) fun _ =>
  sd_bx (fX1_buriedUnder G a1 a2) (fun e4 =>
    sd_bnd (sd_own e4) fun k4 =>
    if k4 = 50 then (
      sd_ret 1)
    else if k4 = 48 then (
      sd_ret 2)
    else sd_fail) fun r1 =>
  sd_bnd (sd_astL a3 0 (r1.toInt64)) fun _ =>
  sd_ret 0
set_option maxHeartbeats 4000000 in
theorem sX0_buriedUnder (l : Launch) (hl : l.stackTraces = false) (G : sd_G) (a1 : Nat) (a2 : Int32) (a3 : Nat) (h : sd_H) (ρ : Int32) (cT : Nat × Nat) (h2 : sd_H) (hf : fX0_buriedUnder G a1 a2 a3 h = some (ρ, cT, h2)) : sd_Met mX0_buriedUnder ((l, G), (9, 144), [.ref a1, .int a2, .ref a3], (sd_oI ρ, h2), cT) h := by
  refine sd_entryW rfl rfl (Nat.le_of_ble_eq_true rfl) ?_
  show sd_J mX0_buriedUnder ((l, G), (9, 144), [.ref a1, .int a2, .ref a3], (sd_oI ρ, h2), cT) 0 [(0, .ref a1), (1, .int a2), (2, .ref a3)] [] h cT
  unfold fX0_buriedUnder at hf
  refine sj_aload_n 2 dX0_buriedUnder_0 rfl ?_
  refine sj_iconst (v := 0) dX0_buriedUnder_1 (by decide) ?_
  refine sj_aload_n 0 dX0_buriedUnder_2 rfl ?_
  refine sj_iload_n 1 dX0_buriedUnder_3 rfl ?_
  obtain ⟨fs4, he4, hf⟩ := sd_isC_some hf
  refine sj_xI (rest := [.int 0, .ref a3]) (fun _ _ _ e => sj_runV (n := 1) (As := [.int a2]) (rest := [.int 0, .ref a3]) (sX1_buriedUnder l hl G a1 a2 h _ _ _ e) he4 rfl rfl rfl rfl q2514 q2515 q2516 q116 q2517 (by decide +kernel) rfl rfl ⟨Nat.le_of_ble_eq_true rfl, Nat.le_of_ble_eq_true rfl⟩ rfl (Nat.le_of_ble_eq_true rfl) dX0_buriedUnder_4) hf (fun e4 h c hf => ?_) (fun r1 h c hf => ?_)
  · obtain ⟨ci4, fs4, he4, hf⟩ := sd_own_some hf
    by_cases z4_50 : ci4 = 50
    · rw [if_pos z4_50] at hf; subst z4_50
      refine sj_catch (tableOf []) ({ startPc := 0, endPc := 9, handlerPc := 12, catchType := 24 }) (tableOf [(0, 9, 15, 13)]) he4 rfl rfl (fun z hz => nomatch hz) (by decide) (by decide) q2367 q2399 ?_
      refine sj_astore_n [(3, .ref e4), (0, .ref a1), (1, .int a2), (2, .ref a3)] dX0_buriedUnder_12 (by decide) rfl ?_
      refine sj_iconst (v := 1) dX0_buriedUnder_13 (by decide) ?_
      exact sj_iret (o := sd_oI) hf rfl rfl rfl dX0_buriedUnder_14
    rw [if_neg z4_50] at hf
    by_cases z4_48 : ci4 = 48
    · rw [if_pos z4_48] at hf; subst z4_48
      refine sj_catch (tableOf [(0, 9, 12, 24)]) ({ startPc := 0, endPc := 9, handlerPc := 15, catchType := 13 }) (tableOf []) he4 rfl rfl (fun z hz => by rw [List.mem_singleton.mp hz]; exact Or.inr ⟨by decide, _, q2367, by decide⟩) (by decide) (by decide) q2315 q2325 ?_
      refine sj_astore_n [(3, .ref e4), (0, .ref a1), (1, .int a2), (2, .ref a3)] dX0_buriedUnder_15 (by decide) rfl ?_
      refine sj_iconst (v := 2) dX0_buriedUnder_16 (by decide) ?_
      exact sj_iret (o := sd_oI) hf rfl rfl rfl dX0_buriedUnder_17
    rw [if_neg z4_48] at hf
    cases hf
  refine sj_i2l dX0_buriedUnder_7 ?_
  refine sj_last hf dX0_buriedUnder_8 (fun h hf => ?_)
  refine sj_goto 18 dX0_buriedUnder_9 (by decide) ?_
  refine sj_iconst (v := 0) dX0_buriedUnder_18 (by decide) ?_
  exact sj_iret (o := sd_oI) hf rfl rfl rfl dX0_buriedUnder_19
/-! SofaDigLaw.notBefore(LSofaDig;I[J)I -/
abbrev cX0_notBefore : ByteArray := method_18_code
def yX0_notBefore : MethodName := ⟨RX0, "notBefore", "(LSofaDig;I[J)I"⟩
def dkwX0_notBefore_0 : List UInt8 := [44, 3, 42, 27, 182, 0, 63, 133, 80, 167, 0, 6, 78, 4, 172, 3, 172]
abbrev dktX0_notBefore_0 : List UInt8 := dkwX0_notBefore_0 ++ []
theorem dksX0_notBefore_0 : cX0_notBefore.data.toList.drop 0 = dktX0_notBefore_0 := by decide +kernel
theorem dX0_notBefore_0 : decode cX0_notBefore 0 = .ok (.aload_n 2, 1) := dk_44 (dk_at dksX0_notBefore_0 0 rfl rfl)
theorem dX0_notBefore_1 : decode cX0_notBefore 1 = .ok (.iconst 0, 1) := dk_3 (dk_at dksX0_notBefore_0 1 rfl rfl)
theorem dX0_notBefore_2 : decode cX0_notBefore 2 = .ok (.aload_n 0, 1) := dk_42 (dk_at dksX0_notBefore_0 2 rfl rfl)
theorem dX0_notBefore_3 : decode cX0_notBefore 3 = .ok (.iload_n 1, 1) := dk_27 (dk_at dksX0_notBefore_0 3 rfl rfl)
theorem dX0_notBefore_4 : decode cX0_notBefore 4 = .ok (.invokevirtual 63, 3) := dk_182 0 63 (dk_at dksX0_notBefore_0 4 rfl rfl)
theorem dX0_notBefore_7 : decode cX0_notBefore 7 = .ok (.i2l, 1) := dk_133 (dk_at dksX0_notBefore_0 7 rfl rfl)
theorem dX0_notBefore_8 : decode cX0_notBefore 8 = .ok (.lastore, 1) := dk_80 (dk_at dksX0_notBefore_0 8 rfl rfl)
theorem dX0_notBefore_9 : decode cX0_notBefore 9 = .ok (.goto 6, 3) := dk_167 0 6 (dk_at dksX0_notBefore_0 9 rfl rfl)
theorem dX0_notBefore_12 : decode cX0_notBefore 12 = .ok (.astore_n 3, 1) := dk_78 (dk_at dksX0_notBefore_0 12 rfl rfl)
theorem dX0_notBefore_13 : decode cX0_notBefore 13 = .ok (.iconst 1, 1) := dk_4 (dk_at dksX0_notBefore_0 13 rfl rfl)
theorem dX0_notBefore_14 : decode cX0_notBefore 14 = .ok (.ireturn, 1) := dk_172 (dk_at dksX0_notBefore_0 14 rfl rfl)
theorem dX0_notBefore_15 : decode cX0_notBefore 15 = .ok (.iconst 0, 1) := dk_3 (dk_at dksX0_notBefore_0 15 rfl rfl)
theorem dX0_notBefore_16 : decode cX0_notBefore 16 = .ok (.ireturn, 1) := dk_172 (dk_at dksX0_notBefore_0 16 rfl rfl)
abbrev mX0_notBefore : sd_Y := (yX0_notBefore, cX0_notBefore, 4, some (.int), some [(0, 9, 12, 24)])
def fX0_notBefore (G : sd_G) (a1 : Nat) (a2 : Int32) (a3 : Nat) : sd_M Int32 :=
  sd_bnd (sd_isC G 0 a1) fun _ =>
  sd_bx (fX1_notBefore G a1 a2) (fun e4 =>
    sd_bnd (sd_own e4) fun k4 =>
    if k4 = 50 then (
      sd_ret 1)
    else sd_fail) fun r1 =>
  sd_bnd (sd_astL a3 0 (r1.toInt64)) fun _ =>
  sd_ret 0
set_option maxHeartbeats 4000000 in
theorem sX0_notBefore (l : Launch) (hl : l.stackTraces = false) (G : sd_G) (a1 : Nat) (a2 : Int32) (a3 : Nat) (h : sd_H) (ρ : Int32) (cT : Nat × Nat) (h2 : sd_H) (hf : fX0_notBefore G a1 a2 a3 h = some (ρ, cT, h2)) : sd_Met mX0_notBefore ((l, G), (9, 144), [.ref a1, .int a2, .ref a3], (sd_oI ρ, h2), cT) h := by
  refine sd_entryW rfl rfl (Nat.le_of_ble_eq_true rfl) ?_
  show sd_J mX0_notBefore ((l, G), (9, 144), [.ref a1, .int a2, .ref a3], (sd_oI ρ, h2), cT) 0 [(0, .ref a1), (1, .int a2), (2, .ref a3)] [] h cT
  unfold fX0_notBefore at hf
  refine sj_aload_n 2 dX0_notBefore_0 rfl ?_
  refine sj_iconst (v := 0) dX0_notBefore_1 (by decide) ?_
  refine sj_aload_n 0 dX0_notBefore_2 rfl ?_
  refine sj_iload_n 1 dX0_notBefore_3 rfl ?_
  obtain ⟨fs4, he4, hf⟩ := sd_isC_some hf
  refine sj_xI (rest := [.int 0, .ref a3]) (fun _ _ _ e => sj_runV (n := 1) (As := [.int a2]) (rest := [.int 0, .ref a3]) (sX1_notBefore l hl G a1 a2 h _ _ _ e) he4 rfl rfl rfl rfl q2525 q2526 q2527 q116 q2528 (by decide +kernel) rfl rfl ⟨Nat.le_of_ble_eq_true rfl, Nat.le_of_ble_eq_true rfl⟩ rfl (Nat.le_of_ble_eq_true rfl) dX0_notBefore_4) hf (fun e4 h c hf => ?_) (fun r1 h c hf => ?_)
  · obtain ⟨ci4, fs4, he4, hf⟩ := sd_own_some hf
    by_cases z4_50 : ci4 = 50
    · rw [if_pos z4_50] at hf; subst z4_50
      refine sj_catch (tableOf []) ({ startPc := 0, endPc := 9, handlerPc := 12, catchType := 24 }) (tableOf []) he4 rfl rfl (fun z hz => nomatch hz) (by decide) (by decide) q2367 q2399 ?_
      refine sj_astore_n [(3, .ref e4), (0, .ref a1), (1, .int a2), (2, .ref a3)] dX0_notBefore_12 (by decide) rfl ?_
      refine sj_iconst (v := 1) dX0_notBefore_13 (by decide) ?_
      exact sj_iret (o := sd_oI) hf rfl rfl rfl dX0_notBefore_14
    rw [if_neg z4_50] at hf
    cases hf
  refine sj_i2l dX0_notBefore_7 ?_
  refine sj_last hf dX0_notBefore_8 (fun h hf => ?_)
  refine sj_goto 15 dX0_notBefore_9 (by decide) ?_
  refine sj_iconst (v := 0) dX0_notBefore_15 (by decide) ?_
  exact sj_iret (o := sd_oI) hf rfl rfl rfl dX0_notBefore_16
/-! SofaDigLaw.isSeenIn(LSofaDig;II[J)I -/
abbrev cX0_isSeenIn : ByteArray := method_19_code
def yX0_isSeenIn : MethodName := ⟨RX0, "isSeenIn", "(LSofaDig;II[J)I"⟩
def dkwX0_isSeenIn_1 : List UInt8 := [3, 172]
abbrev dktX0_isSeenIn_1 : List UInt8 := dkwX0_isSeenIn_1 ++ []
def dkwX0_isSeenIn_0 : List UInt8 := [45, 3, 42, 27, 28, 182, 0, 66, 153, 0, 7, 10, 167, 0, 4, 9, 80, 167, 0, 7, 58, 4, 4, 172]
abbrev dktX0_isSeenIn_0 : List UInt8 := dkwX0_isSeenIn_0 ++ dktX0_isSeenIn_1
theorem dksX0_isSeenIn_0 : cX0_isSeenIn.data.toList.drop 0 = dktX0_isSeenIn_0 := by decide +kernel
theorem dksX0_isSeenIn_1 : cX0_isSeenIn.data.toList.drop 24 = dktX0_isSeenIn_1 := dk_seg dksX0_isSeenIn_0 24 rfl rfl
theorem dX0_isSeenIn_0 : decode cX0_isSeenIn 0 = .ok (.aload_n 3, 1) := dk_45 (dk_at dksX0_isSeenIn_0 0 rfl rfl)
theorem dX0_isSeenIn_1 : decode cX0_isSeenIn 1 = .ok (.iconst 0, 1) := dk_3 (dk_at dksX0_isSeenIn_0 1 rfl rfl)
theorem dX0_isSeenIn_2 : decode cX0_isSeenIn 2 = .ok (.aload_n 0, 1) := dk_42 (dk_at dksX0_isSeenIn_0 2 rfl rfl)
theorem dX0_isSeenIn_3 : decode cX0_isSeenIn 3 = .ok (.iload_n 1, 1) := dk_27 (dk_at dksX0_isSeenIn_0 3 rfl rfl)
theorem dX0_isSeenIn_4 : decode cX0_isSeenIn 4 = .ok (.iload_n 2, 1) := dk_28 (dk_at dksX0_isSeenIn_0 4 rfl rfl)
theorem dX0_isSeenIn_5 : decode cX0_isSeenIn 5 = .ok (.invokevirtual 66, 3) := dk_182 0 66 (dk_at dksX0_isSeenIn_0 5 rfl rfl)
theorem dX0_isSeenIn_8 : decode cX0_isSeenIn 8 = .ok (.ifCond .eq 7, 3) := dk_153 0 7 (dk_at dksX0_isSeenIn_0 8 rfl rfl)
theorem dX0_isSeenIn_11 : decode cX0_isSeenIn 11 = .ok (.lconst 1, 1) := dk_10 (dk_at dksX0_isSeenIn_0 11 rfl rfl)
theorem dX0_isSeenIn_12 : decode cX0_isSeenIn 12 = .ok (.goto 4, 3) := dk_167 0 4 (dk_at dksX0_isSeenIn_0 12 rfl rfl)
theorem dX0_isSeenIn_15 : decode cX0_isSeenIn 15 = .ok (.lconst 0, 1) := dk_9 (dk_at dksX0_isSeenIn_0 15 rfl rfl)
theorem dX0_isSeenIn_16 : decode cX0_isSeenIn 16 = .ok (.lastore, 1) := dk_80 (dk_at dksX0_isSeenIn_0 16 rfl rfl)
theorem dX0_isSeenIn_17 : decode cX0_isSeenIn 17 = .ok (.goto 7, 3) := dk_167 0 7 (dk_at dksX0_isSeenIn_0 17 rfl rfl)
theorem dX0_isSeenIn_20 : decode cX0_isSeenIn 20 = .ok (.astore 4, 2) := dk_58 4 (dk_at dksX0_isSeenIn_0 20 rfl rfl)
theorem dX0_isSeenIn_22 : decode cX0_isSeenIn 22 = .ok (.iconst 1, 1) := dk_4 (dk_at dksX0_isSeenIn_0 22 rfl rfl)
theorem dX0_isSeenIn_23 : decode cX0_isSeenIn 23 = .ok (.ireturn, 1) := dk_172 (dk_at dksX0_isSeenIn_0 23 rfl rfl)
theorem dX0_isSeenIn_24 : decode cX0_isSeenIn 24 = .ok (.iconst 0, 1) := dk_3 (dk_at dksX0_isSeenIn_1 0 rfl rfl)
theorem dX0_isSeenIn_25 : decode cX0_isSeenIn 25 = .ok (.ireturn, 1) := dk_172 (dk_at dksX0_isSeenIn_1 1 rfl rfl)
abbrev mX0_isSeenIn : sd_Y := (yX0_isSeenIn, cX0_isSeenIn, 5, some (.int), some [(0, 17, 20, 24)])
def fX0_isSeenIn (G : sd_G) (a1 : Nat) (a2 : Int32) (a3 : Int32) (a4 : Nat) : sd_M Int32 :=
  sd_bnd (sd_isC G 0 a1) fun _ =>
  sd_bx (fX1_isSeenIn G a1 a2 a3) (fun e5 =>
    sd_bnd (sd_own e5) fun k5 =>
    if k5 = 50 then (
      sd_ret 1)
    else sd_fail) fun r1 =>
  if r1 = 0 then (
    sd_bnd (sd_astL a4 0 0) fun _ =>
    sd_ret 0)
  else (
    sd_bnd (sd_astL a4 0 1) fun _ =>
    sd_ret 0)
set_option maxHeartbeats 4000000 in
theorem sX0_isSeenIn (l : Launch) (hl : l.stackTraces = false) (G : sd_G) (a1 : Nat) (a2 : Int32) (a3 : Int32) (a4 : Nat) (h : sd_H) (ρ : Int32) (cT : Nat × Nat) (h2 : sd_H) (hf : fX0_isSeenIn G a1 a2 a3 a4 h = some (ρ, cT, h2)) : sd_Met mX0_isSeenIn ((l, G), (8, 124), [.ref a1, .int a2, .int a3, .ref a4], (sd_oI ρ, h2), cT) h := by
  refine sd_entryW rfl rfl (Nat.le_of_ble_eq_true rfl) ?_
  show sd_J mX0_isSeenIn ((l, G), (8, 124), [.ref a1, .int a2, .int a3, .ref a4], (sd_oI ρ, h2), cT) 0 [(0, .ref a1), (1, .int a2), (2, .int a3), (3, .ref a4)] [] h cT
  unfold fX0_isSeenIn at hf
  refine sj_aload_n 3 dX0_isSeenIn_0 rfl ?_
  refine sj_iconst (v := 0) dX0_isSeenIn_1 (by decide) ?_
  refine sj_aload_n 0 dX0_isSeenIn_2 rfl ?_
  refine sj_iload_n 1 dX0_isSeenIn_3 rfl ?_
  refine sj_iload_n 2 dX0_isSeenIn_4 rfl ?_
  obtain ⟨fs5, he5, hf⟩ := sd_isC_some hf
  refine sj_xI (rest := [.int 0, .ref a4]) (fun _ _ _ e => sj_runV (n := 2) (As := [.int a2, .int a3]) (rest := [.int 0, .ref a4]) (sX1_isSeenIn l hl G a1 a2 a3 h _ _ _ e) he5 rfl rfl rfl rfl q2536 q2537 q2538 q116 q2539 (by decide +kernel) rfl rfl ⟨Nat.le_of_ble_eq_true rfl, Nat.le_of_ble_eq_true rfl⟩ rfl (Nat.le_of_ble_eq_true rfl) dX0_isSeenIn_5) hf (fun e5 h c hf => ?_) (fun r1 h c hf => ?_)
  · obtain ⟨ci5, fs5, he5, hf⟩ := sd_own_some hf
    by_cases z5_50 : ci5 = 50
    · rw [if_pos z5_50] at hf; subst z5_50
      refine sj_catch (tableOf []) ({ startPc := 0, endPc := 17, handlerPc := 20, catchType := 24 }) (tableOf []) he5 rfl rfl (fun z hz => nomatch hz) (by decide) (by decide) q2367 q2399 ?_
      refine sj_astore [(4, .ref e5), (0, .ref a1), (1, .int a2), (2, .int a3), (3, .ref a4)] dX0_isSeenIn_20 (by decide) rfl ?_
      refine sj_iconst (v := 1) dX0_isSeenIn_22 (by decide) ?_
      exact sj_iret (o := sd_oI) hf rfl rfl rfl dX0_isSeenIn_23
    rw [if_neg z5_50] at hf
    cases hf
  refine sj_ifeq 15 hf dX0_isSeenIn_8 (by decide) (fun g8 hf => ?_) (fun g8 hf => ?_)
  · refine sj_lconst (v := 0) dX0_isSeenIn_15 (by decide) ?_
    refine sj_last hf dX0_isSeenIn_16 (fun h hf => ?_)
    refine sj_goto 24 dX0_isSeenIn_17 (by decide) ?_
    refine sj_iconst (v := 0) dX0_isSeenIn_24 (by decide) ?_
    exact sj_iret (o := sd_oI) hf rfl rfl rfl dX0_isSeenIn_25
  · refine sj_lconst (v := 1) dX0_isSeenIn_11 (by decide) ?_
    refine sj_goto 16 dX0_isSeenIn_12 (by decide) ?_
    refine sj_last hf dX0_isSeenIn_16 (fun h hf => ?_)
    refine sj_goto 24 dX0_isSeenIn_17 (by decide) ?_
    refine sj_iconst (v := 0) dX0_isSeenIn_24 (by decide) ?_
    exact sj_iret (o := sd_oI) hf rfl rfl rfl dX0_isSeenIn_25
/-! SofaDigLaw.isMixed(LSofaDig;I[J)I -/
abbrev cX0_isMixed : ByteArray := method_20_code
def yX0_isMixed : MethodName := ⟨RX0, "isMixed", "(LSofaDig;I[J)I"⟩
def dkwX0_isMixed_0 : List UInt8 := [44, 3, 42, 27, 182, 0, 70, 153, 0, 7, 10, 167, 0, 4, 9, 80, 167, 0, 6, 78, 4, 172, 3, 172]
abbrev dktX0_isMixed_0 : List UInt8 := dkwX0_isMixed_0 ++ []
theorem dksX0_isMixed_0 : cX0_isMixed.data.toList.drop 0 = dktX0_isMixed_0 := by decide +kernel
theorem dX0_isMixed_0 : decode cX0_isMixed 0 = .ok (.aload_n 2, 1) := dk_44 (dk_at dksX0_isMixed_0 0 rfl rfl)
theorem dX0_isMixed_1 : decode cX0_isMixed 1 = .ok (.iconst 0, 1) := dk_3 (dk_at dksX0_isMixed_0 1 rfl rfl)
theorem dX0_isMixed_2 : decode cX0_isMixed 2 = .ok (.aload_n 0, 1) := dk_42 (dk_at dksX0_isMixed_0 2 rfl rfl)
theorem dX0_isMixed_3 : decode cX0_isMixed 3 = .ok (.iload_n 1, 1) := dk_27 (dk_at dksX0_isMixed_0 3 rfl rfl)
theorem dX0_isMixed_4 : decode cX0_isMixed 4 = .ok (.invokevirtual 70, 3) := dk_182 0 70 (dk_at dksX0_isMixed_0 4 rfl rfl)
theorem dX0_isMixed_7 : decode cX0_isMixed 7 = .ok (.ifCond .eq 7, 3) := dk_153 0 7 (dk_at dksX0_isMixed_0 7 rfl rfl)
theorem dX0_isMixed_10 : decode cX0_isMixed 10 = .ok (.lconst 1, 1) := dk_10 (dk_at dksX0_isMixed_0 10 rfl rfl)
theorem dX0_isMixed_11 : decode cX0_isMixed 11 = .ok (.goto 4, 3) := dk_167 0 4 (dk_at dksX0_isMixed_0 11 rfl rfl)
theorem dX0_isMixed_14 : decode cX0_isMixed 14 = .ok (.lconst 0, 1) := dk_9 (dk_at dksX0_isMixed_0 14 rfl rfl)
theorem dX0_isMixed_15 : decode cX0_isMixed 15 = .ok (.lastore, 1) := dk_80 (dk_at dksX0_isMixed_0 15 rfl rfl)
theorem dX0_isMixed_16 : decode cX0_isMixed 16 = .ok (.goto 6, 3) := dk_167 0 6 (dk_at dksX0_isMixed_0 16 rfl rfl)
theorem dX0_isMixed_19 : decode cX0_isMixed 19 = .ok (.astore_n 3, 1) := dk_78 (dk_at dksX0_isMixed_0 19 rfl rfl)
theorem dX0_isMixed_20 : decode cX0_isMixed 20 = .ok (.iconst 1, 1) := dk_4 (dk_at dksX0_isMixed_0 20 rfl rfl)
theorem dX0_isMixed_21 : decode cX0_isMixed 21 = .ok (.ireturn, 1) := dk_172 (dk_at dksX0_isMixed_0 21 rfl rfl)
theorem dX0_isMixed_22 : decode cX0_isMixed 22 = .ok (.iconst 0, 1) := dk_3 (dk_at dksX0_isMixed_0 22 rfl rfl)
theorem dX0_isMixed_23 : decode cX0_isMixed 23 = .ok (.ireturn, 1) := dk_172 (dk_at dksX0_isMixed_0 23 rfl rfl)
abbrev mX0_isMixed : sd_Y := (yX0_isMixed, cX0_isMixed, 4, some (.int), some [(0, 16, 19, 24)])
def fX0_isMixed (G : sd_G) (a1 : Nat) (a2 : Int32) (a3 : Nat) : sd_M Int32 :=
  sd_bnd (sd_isC G 0 a1) fun _ =>
  sd_bx (fX1_isMixed G a1 a2) (fun e4 =>
    sd_bnd (sd_own e4) fun k4 =>
    if k4 = 50 then (
      sd_ret 1)
    else sd_fail) fun r1 =>
  if r1 = 0 then (
    sd_bnd (sd_astL a3 0 0) fun _ =>
    sd_ret 0)
  else (
    sd_bnd (sd_astL a3 0 1) fun _ =>
    sd_ret 0)
set_option maxHeartbeats 4000000 in
theorem sX0_isMixed (l : Launch) (hl : l.stackTraces = false) (G : sd_G) (a1 : Nat) (a2 : Int32) (a3 : Nat) (h : sd_H) (ρ : Int32) (cT : Nat × Nat) (h2 : sd_H) (hf : fX0_isMixed G a1 a2 a3 h = some (ρ, cT, h2)) : sd_Met mX0_isMixed ((l, G), (9, 144), [.ref a1, .int a2, .ref a3], (sd_oI ρ, h2), cT) h := by
  refine sd_entryW rfl rfl (Nat.le_of_ble_eq_true rfl) ?_
  show sd_J mX0_isMixed ((l, G), (9, 144), [.ref a1, .int a2, .ref a3], (sd_oI ρ, h2), cT) 0 [(0, .ref a1), (1, .int a2), (2, .ref a3)] [] h cT
  unfold fX0_isMixed at hf
  refine sj_aload_n 2 dX0_isMixed_0 rfl ?_
  refine sj_iconst (v := 0) dX0_isMixed_1 (by decide) ?_
  refine sj_aload_n 0 dX0_isMixed_2 rfl ?_
  refine sj_iload_n 1 dX0_isMixed_3 rfl ?_
  obtain ⟨fs4, he4, hf⟩ := sd_isC_some hf
  refine sj_xI (rest := [.int 0, .ref a3]) (fun _ _ _ e => sj_runV (n := 1) (As := [.int a2]) (rest := [.int 0, .ref a3]) (sX1_isMixed l hl G a1 a2 h _ _ _ e) he4 rfl rfl rfl rfl q2544 q2545 q2546 q116 q2547 (by decide +kernel) rfl rfl ⟨Nat.le_of_ble_eq_true rfl, Nat.le_of_ble_eq_true rfl⟩ rfl (Nat.le_of_ble_eq_true rfl) dX0_isMixed_4) hf (fun e4 h c hf => ?_) (fun r1 h c hf => ?_)
  · obtain ⟨ci4, fs4, he4, hf⟩ := sd_own_some hf
    by_cases z4_50 : ci4 = 50
    · rw [if_pos z4_50] at hf; subst z4_50
      refine sj_catch (tableOf []) ({ startPc := 0, endPc := 16, handlerPc := 19, catchType := 24 }) (tableOf []) he4 rfl rfl (fun z hz => nomatch hz) (by decide) (by decide) q2367 q2399 ?_
      refine sj_astore_n [(3, .ref e4), (0, .ref a1), (1, .int a2), (2, .ref a3)] dX0_isMixed_19 (by decide) rfl ?_
      refine sj_iconst (v := 1) dX0_isMixed_20 (by decide) ?_
      exact sj_iret (o := sd_oI) hf rfl rfl rfl dX0_isMixed_21
    rw [if_neg z4_50] at hf
    cases hf
  refine sj_ifeq 14 hf dX0_isMixed_7 (by decide) (fun g7 hf => ?_) (fun g7 hf => ?_)
  · refine sj_lconst (v := 0) dX0_isMixed_14 (by decide) ?_
    refine sj_last hf dX0_isMixed_15 (fun h hf => ?_)
    refine sj_goto 22 dX0_isMixed_16 (by decide) ?_
    refine sj_iconst (v := 0) dX0_isMixed_22 (by decide) ?_
    exact sj_iret (o := sd_oI) hf rfl rfl rfl dX0_isMixed_23
  · refine sj_lconst (v := 1) dX0_isMixed_10 (by decide) ?_
    refine sj_goto 15 dX0_isMixed_11 (by decide) ?_
    refine sj_last hf dX0_isMixed_15 (fun h hf => ?_)
    refine sj_goto 22 dX0_isMixed_16 (by decide) ?_
    refine sj_iconst (v := 0) dX0_isMixed_22 (by decide) ?_
    exact sj_iret (o := sd_oI) hf rfl rfl rfl dX0_isMixed_23
/-! SofaDigLaw.dig(LSofaDig;I[J)I -/
abbrev cX0_dig : ByteArray := method_21_code
def yX0_dig : MethodName := ⟨RX0, "dig", "(LSofaDig;I[J)I"⟩
def dkwX0_dig_0 : List UInt8 := [44, 3, 42, 27, 182, 0, 73, 133, 80, 167, 0, 9, 78, 4, 172, 78, 5, 172, 3, 172]
abbrev dktX0_dig_0 : List UInt8 := dkwX0_dig_0 ++ []
theorem dksX0_dig_0 : cX0_dig.data.toList.drop 0 = dktX0_dig_0 := by decide +kernel
theorem dX0_dig_0 : decode cX0_dig 0 = .ok (.aload_n 2, 1) := dk_44 (dk_at dksX0_dig_0 0 rfl rfl)
theorem dX0_dig_1 : decode cX0_dig 1 = .ok (.iconst 0, 1) := dk_3 (dk_at dksX0_dig_0 1 rfl rfl)
theorem dX0_dig_2 : decode cX0_dig 2 = .ok (.aload_n 0, 1) := dk_42 (dk_at dksX0_dig_0 2 rfl rfl)
theorem dX0_dig_3 : decode cX0_dig 3 = .ok (.iload_n 1, 1) := dk_27 (dk_at dksX0_dig_0 3 rfl rfl)
theorem dX0_dig_4 : decode cX0_dig 4 = .ok (.invokevirtual 73, 3) := dk_182 0 73 (dk_at dksX0_dig_0 4 rfl rfl)
theorem dX0_dig_7 : decode cX0_dig 7 = .ok (.i2l, 1) := dk_133 (dk_at dksX0_dig_0 7 rfl rfl)
theorem dX0_dig_8 : decode cX0_dig 8 = .ok (.lastore, 1) := dk_80 (dk_at dksX0_dig_0 8 rfl rfl)
theorem dX0_dig_9 : decode cX0_dig 9 = .ok (.goto 9, 3) := dk_167 0 9 (dk_at dksX0_dig_0 9 rfl rfl)
theorem dX0_dig_12 : decode cX0_dig 12 = .ok (.astore_n 3, 1) := dk_78 (dk_at dksX0_dig_0 12 rfl rfl)
theorem dX0_dig_13 : decode cX0_dig 13 = .ok (.iconst 1, 1) := dk_4 (dk_at dksX0_dig_0 13 rfl rfl)
theorem dX0_dig_14 : decode cX0_dig 14 = .ok (.ireturn, 1) := dk_172 (dk_at dksX0_dig_0 14 rfl rfl)
theorem dX0_dig_15 : decode cX0_dig 15 = .ok (.astore_n 3, 1) := dk_78 (dk_at dksX0_dig_0 15 rfl rfl)
theorem dX0_dig_16 : decode cX0_dig 16 = .ok (.iconst 2, 1) := dk_5 (dk_at dksX0_dig_0 16 rfl rfl)
theorem dX0_dig_17 : decode cX0_dig 17 = .ok (.ireturn, 1) := dk_172 (dk_at dksX0_dig_0 17 rfl rfl)
theorem dX0_dig_18 : decode cX0_dig 18 = .ok (.iconst 0, 1) := dk_3 (dk_at dksX0_dig_0 18 rfl rfl)
theorem dX0_dig_19 : decode cX0_dig 19 = .ok (.ireturn, 1) := dk_172 (dk_at dksX0_dig_0 19 rfl rfl)
abbrev mX0_dig : sd_Y := (yX0_dig, cX0_dig, 4, some (.int), some [(0, 9, 12, 24), (0, 9, 15, 13)])
def fX0_dig (G : sd_G) (a1 : Nat) (a2 : Int32) (a3 : Nat) : sd_M Int32 :=
  sd_bnd (sd_isC G 0 a1) fun _ =>
  sd_bx (fX1_dig G a1 a2) (fun e4 =>
    sd_bnd (sd_own e4) fun k4 =>
    if k4 = 50 then (
      sd_ret 1)
    else if k4 = 48 then (
      sd_ret 2)
    else sd_fail) fun r1 =>
  sd_bnd (sd_astL a3 0 (r1.toInt64)) fun _ =>
  sd_ret 0
set_option maxHeartbeats 4000000 in
theorem sX0_dig (l : Launch) (hl : l.stackTraces = false) (G : sd_G) (a1 : Nat) (a2 : Int32) (a3 : Nat) (h : sd_H) (ρ : Int32) (cT : Nat × Nat) (h2 : sd_H) (hf : fX0_dig G a1 a2 a3 h = some (ρ, cT, h2)) : sd_Met mX0_dig ((l, G), (10, 218), [.ref a1, .int a2, .ref a3], (sd_oI ρ, h2), cT) h := by
  refine sd_entryW rfl rfl (Nat.le_of_ble_eq_true rfl) ?_
  show sd_J mX0_dig ((l, G), (10, 218), [.ref a1, .int a2, .ref a3], (sd_oI ρ, h2), cT) 0 [(0, .ref a1), (1, .int a2), (2, .ref a3)] [] h cT
  unfold fX0_dig at hf
  refine sj_aload_n 2 dX0_dig_0 rfl ?_
  refine sj_iconst (v := 0) dX0_dig_1 (by decide) ?_
  refine sj_aload_n 0 dX0_dig_2 rfl ?_
  refine sj_iload_n 1 dX0_dig_3 rfl ?_
  obtain ⟨fs4, he4, hf⟩ := sd_isC_some hf
  refine sj_xI (rest := [.int 0, .ref a3]) (fun _ _ _ e => sj_runV (n := 1) (As := [.int a2]) (rest := [.int 0, .ref a3]) (sX1_dig l hl G a1 a2 h _ _ _ e) he4 rfl rfl rfl rfl q2551 q2552 q2553 q116 q2554 (by decide +kernel) rfl rfl ⟨Nat.le_of_ble_eq_true rfl, Nat.le_of_ble_eq_true rfl⟩ rfl (Nat.le_of_ble_eq_true rfl) dX0_dig_4) hf (fun e4 h c hf => ?_) (fun r1 h c hf => ?_)
  · obtain ⟨ci4, fs4, he4, hf⟩ := sd_own_some hf
    by_cases z4_50 : ci4 = 50
    · rw [if_pos z4_50] at hf; subst z4_50
      refine sj_catch (tableOf []) ({ startPc := 0, endPc := 9, handlerPc := 12, catchType := 24 }) (tableOf [(0, 9, 15, 13)]) he4 rfl rfl (fun z hz => nomatch hz) (by decide) (by decide) q2367 q2399 ?_
      refine sj_astore_n [(3, .ref e4), (0, .ref a1), (1, .int a2), (2, .ref a3)] dX0_dig_12 (by decide) rfl ?_
      refine sj_iconst (v := 1) dX0_dig_13 (by decide) ?_
      exact sj_iret (o := sd_oI) hf rfl rfl rfl dX0_dig_14
    rw [if_neg z4_50] at hf
    by_cases z4_48 : ci4 = 48
    · rw [if_pos z4_48] at hf; subst z4_48
      refine sj_catch (tableOf [(0, 9, 12, 24)]) ({ startPc := 0, endPc := 9, handlerPc := 15, catchType := 13 }) (tableOf []) he4 rfl rfl (fun z hz => by rw [List.mem_singleton.mp hz]; exact Or.inr ⟨by decide, _, q2367, by decide⟩) (by decide) (by decide) q2315 q2325 ?_
      refine sj_astore_n [(3, .ref e4), (0, .ref a1), (1, .int a2), (2, .ref a3)] dX0_dig_15 (by decide) rfl ?_
      refine sj_iconst (v := 2) dX0_dig_16 (by decide) ?_
      exact sj_iret (o := sd_oI) hf rfl rfl rfl dX0_dig_17
    rw [if_neg z4_48] at hf
    cases hf
  refine sj_i2l dX0_dig_7 ?_
  refine sj_last hf dX0_dig_8 (fun h hf => ?_)
  refine sj_goto 18 dX0_dig_9 (by decide) ?_
  refine sj_iconst (v := 0) dX0_dig_18 (by decide) ?_
  exact sj_iret (o := sd_oI) hf rfl rfl rfl dX0_dig_19
/-! SofaDigLaw.prop(LSofaDig;I[J)I -/
abbrev cX0_prop : ByteArray := method_22_code
def yX0_prop : MethodName := ⟨RX0, "prop", "(LSofaDig;I[J)I"⟩
def dkwX0_prop_0 : List UInt8 := [44, 3, 42, 27, 182, 0, 76, 133, 80, 167, 0, 9, 78, 4, 172, 78, 5, 172, 3, 172]
abbrev dktX0_prop_0 : List UInt8 := dkwX0_prop_0 ++ []
theorem dksX0_prop_0 : cX0_prop.data.toList.drop 0 = dktX0_prop_0 := by decide +kernel
theorem dX0_prop_0 : decode cX0_prop 0 = .ok (.aload_n 2, 1) := dk_44 (dk_at dksX0_prop_0 0 rfl rfl)
theorem dX0_prop_1 : decode cX0_prop 1 = .ok (.iconst 0, 1) := dk_3 (dk_at dksX0_prop_0 1 rfl rfl)
theorem dX0_prop_2 : decode cX0_prop 2 = .ok (.aload_n 0, 1) := dk_42 (dk_at dksX0_prop_0 2 rfl rfl)
theorem dX0_prop_3 : decode cX0_prop 3 = .ok (.iload_n 1, 1) := dk_27 (dk_at dksX0_prop_0 3 rfl rfl)
theorem dX0_prop_4 : decode cX0_prop 4 = .ok (.invokevirtual 76, 3) := dk_182 0 76 (dk_at dksX0_prop_0 4 rfl rfl)
theorem dX0_prop_7 : decode cX0_prop 7 = .ok (.i2l, 1) := dk_133 (dk_at dksX0_prop_0 7 rfl rfl)
theorem dX0_prop_8 : decode cX0_prop 8 = .ok (.lastore, 1) := dk_80 (dk_at dksX0_prop_0 8 rfl rfl)
theorem dX0_prop_9 : decode cX0_prop 9 = .ok (.goto 9, 3) := dk_167 0 9 (dk_at dksX0_prop_0 9 rfl rfl)
theorem dX0_prop_12 : decode cX0_prop 12 = .ok (.astore_n 3, 1) := dk_78 (dk_at dksX0_prop_0 12 rfl rfl)
theorem dX0_prop_13 : decode cX0_prop 13 = .ok (.iconst 1, 1) := dk_4 (dk_at dksX0_prop_0 13 rfl rfl)
theorem dX0_prop_14 : decode cX0_prop 14 = .ok (.ireturn, 1) := dk_172 (dk_at dksX0_prop_0 14 rfl rfl)
theorem dX0_prop_15 : decode cX0_prop 15 = .ok (.astore_n 3, 1) := dk_78 (dk_at dksX0_prop_0 15 rfl rfl)
theorem dX0_prop_16 : decode cX0_prop 16 = .ok (.iconst 2, 1) := dk_5 (dk_at dksX0_prop_0 16 rfl rfl)
theorem dX0_prop_17 : decode cX0_prop 17 = .ok (.ireturn, 1) := dk_172 (dk_at dksX0_prop_0 17 rfl rfl)
theorem dX0_prop_18 : decode cX0_prop 18 = .ok (.iconst 0, 1) := dk_3 (dk_at dksX0_prop_0 18 rfl rfl)
theorem dX0_prop_19 : decode cX0_prop 19 = .ok (.ireturn, 1) := dk_172 (dk_at dksX0_prop_0 19 rfl rfl)
abbrev mX0_prop : sd_Y := (yX0_prop, cX0_prop, 4, some (.int), some [(0, 9, 12, 24), (0, 9, 15, 13)])
def fX0_prop (G : sd_G) (a1 : Nat) (a2 : Int32) (a3 : Nat) : sd_M Int32 :=
  sd_bnd (sd_isC G 0 a1) fun _ =>
  sd_bx (fX1_prop G a1 a2) (fun e4 =>
    sd_bnd (sd_own e4) fun k4 =>
    if k4 = 50 then (
      sd_ret 1)
    else if k4 = 48 then (
      sd_ret 2)
    else sd_fail) fun r1 =>
  sd_bnd (sd_astL a3 0 (r1.toInt64)) fun _ =>
  sd_ret 0
set_option maxHeartbeats 4000000 in
theorem sX0_prop (l : Launch) (hl : l.stackTraces = false) (G : sd_G) (a1 : Nat) (a2 : Int32) (a3 : Nat) (h : sd_H) (ρ : Int32) (cT : Nat × Nat) (h2 : sd_H) (hf : fX0_prop G a1 a2 a3 h = some (ρ, cT, h2)) : sd_Met mX0_prop ((l, G), (9, 144), [.ref a1, .int a2, .ref a3], (sd_oI ρ, h2), cT) h := by
  refine sd_entryW rfl rfl (Nat.le_of_ble_eq_true rfl) ?_
  show sd_J mX0_prop ((l, G), (9, 144), [.ref a1, .int a2, .ref a3], (sd_oI ρ, h2), cT) 0 [(0, .ref a1), (1, .int a2), (2, .ref a3)] [] h cT
  unfold fX0_prop at hf
  refine sj_aload_n 2 dX0_prop_0 rfl ?_
  refine sj_iconst (v := 0) dX0_prop_1 (by decide) ?_
  refine sj_aload_n 0 dX0_prop_2 rfl ?_
  refine sj_iload_n 1 dX0_prop_3 rfl ?_
  obtain ⟨fs4, he4, hf⟩ := sd_isC_some hf
  refine sj_xI (rest := [.int 0, .ref a3]) (fun _ _ _ e => sj_runV (n := 1) (As := [.int a2]) (rest := [.int 0, .ref a3]) (sX1_prop l hl G a1 a2 h _ _ _ e) he4 rfl rfl rfl rfl q2558 q2559 q2560 q116 q2561 (by decide +kernel) rfl rfl ⟨Nat.le_of_ble_eq_true rfl, Nat.le_of_ble_eq_true rfl⟩ rfl (Nat.le_of_ble_eq_true rfl) dX0_prop_4) hf (fun e4 h c hf => ?_) (fun r1 h c hf => ?_)
  · obtain ⟨ci4, fs4, he4, hf⟩ := sd_own_some hf
    by_cases z4_50 : ci4 = 50
    · rw [if_pos z4_50] at hf; subst z4_50
      refine sj_catch (tableOf []) ({ startPc := 0, endPc := 9, handlerPc := 12, catchType := 24 }) (tableOf [(0, 9, 15, 13)]) he4 rfl rfl (fun z hz => nomatch hz) (by decide) (by decide) q2367 q2399 ?_
      refine sj_astore_n [(3, .ref e4), (0, .ref a1), (1, .int a2), (2, .ref a3)] dX0_prop_12 (by decide) rfl ?_
      refine sj_iconst (v := 1) dX0_prop_13 (by decide) ?_
      exact sj_iret (o := sd_oI) hf rfl rfl rfl dX0_prop_14
    rw [if_neg z4_50] at hf
    by_cases z4_48 : ci4 = 48
    · rw [if_pos z4_48] at hf; subst z4_48
      refine sj_catch (tableOf [(0, 9, 12, 24)]) ({ startPc := 0, endPc := 9, handlerPc := 15, catchType := 13 }) (tableOf []) he4 rfl rfl (fun z hz => by rw [List.mem_singleton.mp hz]; exact Or.inr ⟨by decide, _, q2367, by decide⟩) (by decide) (by decide) q2315 q2325 ?_
      refine sj_astore_n [(3, .ref e4), (0, .ref a1), (1, .int a2), (2, .ref a3)] dX0_prop_15 (by decide) rfl ?_
      refine sj_iconst (v := 2) dX0_prop_16 (by decide) ?_
      exact sj_iret (o := sd_oI) hf rfl rfl rfl dX0_prop_17
    rw [if_neg z4_48] at hf
    cases hf
  refine sj_i2l dX0_prop_7 ?_
  refine sj_last hf dX0_prop_8 (fun h hf => ?_)
  refine sj_goto 18 dX0_prop_9 (by decide) ?_
  refine sj_iconst (v := 0) dX0_prop_18 (by decide) ?_
  exact sj_iret (o := sd_oI) hf rfl rfl rfl dX0_prop_19
/-! SofaDigLaw.takeProp(LSofaDig;I[J)I -/
abbrev cX0_takeProp : ByteArray := method_23_code
def yX0_takeProp : MethodName := ⟨RX0, "takeProp", "(LSofaDig;I[J)I"⟩
def dkwX0_takeProp_0 : List UInt8 := [44, 3, 42, 27, 182, 0, 79, 133, 80, 167, 0, 9, 78, 4, 172, 78, 5, 172, 3, 172]
abbrev dktX0_takeProp_0 : List UInt8 := dkwX0_takeProp_0 ++ []
theorem dksX0_takeProp_0 : cX0_takeProp.data.toList.drop 0 = dktX0_takeProp_0 := by decide +kernel
theorem dX0_takeProp_0 : decode cX0_takeProp 0 = .ok (.aload_n 2, 1) := dk_44 (dk_at dksX0_takeProp_0 0 rfl rfl)
theorem dX0_takeProp_1 : decode cX0_takeProp 1 = .ok (.iconst 0, 1) := dk_3 (dk_at dksX0_takeProp_0 1 rfl rfl)
theorem dX0_takeProp_2 : decode cX0_takeProp 2 = .ok (.aload_n 0, 1) := dk_42 (dk_at dksX0_takeProp_0 2 rfl rfl)
theorem dX0_takeProp_3 : decode cX0_takeProp 3 = .ok (.iload_n 1, 1) := dk_27 (dk_at dksX0_takeProp_0 3 rfl rfl)
theorem dX0_takeProp_4 : decode cX0_takeProp 4 = .ok (.invokevirtual 79, 3) := dk_182 0 79 (dk_at dksX0_takeProp_0 4 rfl rfl)
theorem dX0_takeProp_7 : decode cX0_takeProp 7 = .ok (.i2l, 1) := dk_133 (dk_at dksX0_takeProp_0 7 rfl rfl)
theorem dX0_takeProp_8 : decode cX0_takeProp 8 = .ok (.lastore, 1) := dk_80 (dk_at dksX0_takeProp_0 8 rfl rfl)
theorem dX0_takeProp_9 : decode cX0_takeProp 9 = .ok (.goto 9, 3) := dk_167 0 9 (dk_at dksX0_takeProp_0 9 rfl rfl)
theorem dX0_takeProp_12 : decode cX0_takeProp 12 = .ok (.astore_n 3, 1) := dk_78 (dk_at dksX0_takeProp_0 12 rfl rfl)
theorem dX0_takeProp_13 : decode cX0_takeProp 13 = .ok (.iconst 1, 1) := dk_4 (dk_at dksX0_takeProp_0 13 rfl rfl)
theorem dX0_takeProp_14 : decode cX0_takeProp 14 = .ok (.ireturn, 1) := dk_172 (dk_at dksX0_takeProp_0 14 rfl rfl)
theorem dX0_takeProp_15 : decode cX0_takeProp 15 = .ok (.astore_n 3, 1) := dk_78 (dk_at dksX0_takeProp_0 15 rfl rfl)
theorem dX0_takeProp_16 : decode cX0_takeProp 16 = .ok (.iconst 2, 1) := dk_5 (dk_at dksX0_takeProp_0 16 rfl rfl)
theorem dX0_takeProp_17 : decode cX0_takeProp 17 = .ok (.ireturn, 1) := dk_172 (dk_at dksX0_takeProp_0 17 rfl rfl)
theorem dX0_takeProp_18 : decode cX0_takeProp 18 = .ok (.iconst 0, 1) := dk_3 (dk_at dksX0_takeProp_0 18 rfl rfl)
theorem dX0_takeProp_19 : decode cX0_takeProp 19 = .ok (.ireturn, 1) := dk_172 (dk_at dksX0_takeProp_0 19 rfl rfl)
abbrev mX0_takeProp : sd_Y := (yX0_takeProp, cX0_takeProp, 4, some (.int), some [(0, 9, 12, 24), (0, 9, 15, 13)])
def fX0_takeProp (G : sd_G) (a1 : Nat) (a2 : Int32) (a3 : Nat) : sd_M Int32 :=
  sd_bnd (sd_isC G 0 a1) fun _ =>
  sd_bx (fX1_takeProp G a1 a2) (fun e4 =>
    sd_bnd (sd_own e4) fun k4 =>
    if k4 = 50 then (
      sd_ret 1)
    else if k4 = 48 then (
      sd_ret 2)
    else sd_fail) fun r1 =>
  sd_bnd (sd_astL a3 0 (r1.toInt64)) fun _ =>
  sd_ret 0
set_option maxHeartbeats 4000000 in
theorem sX0_takeProp (l : Launch) (hl : l.stackTraces = false) (G : sd_G) (a1 : Nat) (a2 : Int32) (a3 : Nat) (h : sd_H) (ρ : Int32) (cT : Nat × Nat) (h2 : sd_H) (hf : fX0_takeProp G a1 a2 a3 h = some (ρ, cT, h2)) : sd_Met mX0_takeProp ((l, G), (10, 218), [.ref a1, .int a2, .ref a3], (sd_oI ρ, h2), cT) h := by
  refine sd_entryW rfl rfl (Nat.le_of_ble_eq_true rfl) ?_
  show sd_J mX0_takeProp ((l, G), (10, 218), [.ref a1, .int a2, .ref a3], (sd_oI ρ, h2), cT) 0 [(0, .ref a1), (1, .int a2), (2, .ref a3)] [] h cT
  unfold fX0_takeProp at hf
  refine sj_aload_n 2 dX0_takeProp_0 rfl ?_
  refine sj_iconst (v := 0) dX0_takeProp_1 (by decide) ?_
  refine sj_aload_n 0 dX0_takeProp_2 rfl ?_
  refine sj_iload_n 1 dX0_takeProp_3 rfl ?_
  obtain ⟨fs4, he4, hf⟩ := sd_isC_some hf
  refine sj_xI (rest := [.int 0, .ref a3]) (fun _ _ _ e => sj_runV (n := 1) (As := [.int a2]) (rest := [.int 0, .ref a3]) (sX1_takeProp l hl G a1 a2 h _ _ _ e) he4 rfl rfl rfl rfl q2570 q2571 q2572 q116 q2573 (by decide +kernel) rfl rfl ⟨Nat.le_of_ble_eq_true rfl, Nat.le_of_ble_eq_true rfl⟩ rfl (Nat.le_of_ble_eq_true rfl) dX0_takeProp_4) hf (fun e4 h c hf => ?_) (fun r1 h c hf => ?_)
  · obtain ⟨ci4, fs4, he4, hf⟩ := sd_own_some hf
    by_cases z4_50 : ci4 = 50
    · rw [if_pos z4_50] at hf; subst z4_50
      refine sj_catch (tableOf []) ({ startPc := 0, endPc := 9, handlerPc := 12, catchType := 24 }) (tableOf [(0, 9, 15, 13)]) he4 rfl rfl (fun z hz => nomatch hz) (by decide) (by decide) q2367 q2399 ?_
      refine sj_astore_n [(3, .ref e4), (0, .ref a1), (1, .int a2), (2, .ref a3)] dX0_takeProp_12 (by decide) rfl ?_
      refine sj_iconst (v := 1) dX0_takeProp_13 (by decide) ?_
      exact sj_iret (o := sd_oI) hf rfl rfl rfl dX0_takeProp_14
    rw [if_neg z4_50] at hf
    by_cases z4_48 : ci4 = 48
    · rw [if_pos z4_48] at hf; subst z4_48
      refine sj_catch (tableOf [(0, 9, 12, 24)]) ({ startPc := 0, endPc := 9, handlerPc := 15, catchType := 13 }) (tableOf []) he4 rfl rfl (fun z hz => by rw [List.mem_singleton.mp hz]; exact Or.inr ⟨by decide, _, q2367, by decide⟩) (by decide) (by decide) q2315 q2325 ?_
      refine sj_astore_n [(3, .ref e4), (0, .ref a1), (1, .int a2), (2, .ref a3)] dX0_takeProp_15 (by decide) rfl ?_
      refine sj_iconst (v := 2) dX0_takeProp_16 (by decide) ?_
      exact sj_iret (o := sd_oI) hf rfl rfl rfl dX0_takeProp_17
    rw [if_neg z4_48] at hf
    cases hf
  refine sj_i2l dX0_takeProp_7 ?_
  refine sj_last hf dX0_takeProp_8 (fun h hf => ?_)
  refine sj_goto 18 dX0_takeProp_9 (by decide) ?_
  refine sj_iconst (v := 0) dX0_takeProp_18 (by decide) ?_
  exact sj_iret (o := sd_oI) hf rfl rfl rfl dX0_takeProp_19
/-! SofaDigLaw.passDays(LSofaDig;I[J)I -/
abbrev cX0_passDays : ByteArray := method_24_code
def yX0_passDays : MethodName := ⟨RX0, "passDays", "(LSofaDig;I[J)I"⟩
def dkwX0_passDays_0 : List UInt8 := [44, 3, 42, 27, 182, 0, 82, 133, 80, 167, 0, 6, 78, 4, 172, 3, 172]
abbrev dktX0_passDays_0 : List UInt8 := dkwX0_passDays_0 ++ []
theorem dksX0_passDays_0 : cX0_passDays.data.toList.drop 0 = dktX0_passDays_0 := by decide +kernel
theorem dX0_passDays_0 : decode cX0_passDays 0 = .ok (.aload_n 2, 1) := dk_44 (dk_at dksX0_passDays_0 0 rfl rfl)
theorem dX0_passDays_1 : decode cX0_passDays 1 = .ok (.iconst 0, 1) := dk_3 (dk_at dksX0_passDays_0 1 rfl rfl)
theorem dX0_passDays_2 : decode cX0_passDays 2 = .ok (.aload_n 0, 1) := dk_42 (dk_at dksX0_passDays_0 2 rfl rfl)
theorem dX0_passDays_3 : decode cX0_passDays 3 = .ok (.iload_n 1, 1) := dk_27 (dk_at dksX0_passDays_0 3 rfl rfl)
theorem dX0_passDays_4 : decode cX0_passDays 4 = .ok (.invokevirtual 82, 3) := dk_182 0 82 (dk_at dksX0_passDays_0 4 rfl rfl)
theorem dX0_passDays_7 : decode cX0_passDays 7 = .ok (.i2l, 1) := dk_133 (dk_at dksX0_passDays_0 7 rfl rfl)
theorem dX0_passDays_8 : decode cX0_passDays 8 = .ok (.lastore, 1) := dk_80 (dk_at dksX0_passDays_0 8 rfl rfl)
theorem dX0_passDays_9 : decode cX0_passDays 9 = .ok (.goto 6, 3) := dk_167 0 6 (dk_at dksX0_passDays_0 9 rfl rfl)
theorem dX0_passDays_12 : decode cX0_passDays 12 = .ok (.astore_n 3, 1) := dk_78 (dk_at dksX0_passDays_0 12 rfl rfl)
theorem dX0_passDays_13 : decode cX0_passDays 13 = .ok (.iconst 1, 1) := dk_4 (dk_at dksX0_passDays_0 13 rfl rfl)
theorem dX0_passDays_14 : decode cX0_passDays 14 = .ok (.ireturn, 1) := dk_172 (dk_at dksX0_passDays_0 14 rfl rfl)
theorem dX0_passDays_15 : decode cX0_passDays 15 = .ok (.iconst 0, 1) := dk_3 (dk_at dksX0_passDays_0 15 rfl rfl)
theorem dX0_passDays_16 : decode cX0_passDays 16 = .ok (.ireturn, 1) := dk_172 (dk_at dksX0_passDays_0 16 rfl rfl)
abbrev mX0_passDays : sd_Y := (yX0_passDays, cX0_passDays, 4, some (.int), some [(0, 9, 12, 19)])
def fX0_passDays (G : sd_G) (a1 : Nat) (a2 : Int32) (a3 : Nat) : sd_M Int32 :=
  sd_bnd (sd_isC G 0 a1) fun _ =>
  sd_bx (fX1_passDays G a1 a2) (fun e4 =>
    sd_bnd (sd_own e4) fun k4 =>
    if k4 = 49 then (
      sd_ret 1)
    else sd_fail) fun r1 =>
  sd_bnd (sd_astL a3 0 (r1.toInt64)) fun _ =>
  sd_ret 0
set_option maxHeartbeats 4000000 in
theorem sX0_passDays (l : Launch) (hl : l.stackTraces = false) (G : sd_G) (a1 : Nat) (a2 : Int32) (a3 : Nat) (h : sd_H) (ρ : Int32) (cT : Nat × Nat) (h2 : sd_H) (hf : fX0_passDays G a1 a2 a3 h = some (ρ, cT, h2)) : sd_Met mX0_passDays ((l, G), (507, 15249), [.ref a1, .int a2, .ref a3], (sd_oI ρ, h2), cT) h := by
  refine sd_entryW rfl rfl (Nat.le_of_ble_eq_true rfl) ?_
  show sd_J mX0_passDays ((l, G), (507, 15249), [.ref a1, .int a2, .ref a3], (sd_oI ρ, h2), cT) 0 [(0, .ref a1), (1, .int a2), (2, .ref a3)] [] h cT
  unfold fX0_passDays at hf
  refine sj_aload_n 2 dX0_passDays_0 rfl ?_
  refine sj_iconst (v := 0) dX0_passDays_1 (by decide) ?_
  refine sj_aload_n 0 dX0_passDays_2 rfl ?_
  refine sj_iload_n 1 dX0_passDays_3 rfl ?_
  obtain ⟨fs4, he4, hf⟩ := sd_isC_some hf
  refine sj_xI (rest := [.int 0, .ref a3]) (fun _ _ _ e => sj_runV (n := 1) (As := [.int a2]) (rest := [.int 0, .ref a3]) (sX1_passDays l hl G a1 a2 h _ _ _ e) he4 rfl rfl rfl rfl q2582 q2583 q2584 q116 q2585 (by decide +kernel) rfl rfl ⟨Nat.le_of_ble_eq_true rfl, Nat.le_of_ble_eq_true rfl⟩ rfl (Nat.le_of_ble_eq_true rfl) dX0_passDays_4) hf (fun e4 h c hf => ?_) (fun r1 h c hf => ?_)
  · obtain ⟨ci4, fs4, he4, hf⟩ := sd_own_some hf
    by_cases z4_49 : ci4 = 49
    · rw [if_pos z4_49] at hf; subst z4_49
      refine sj_catch (tableOf []) ({ startPc := 0, endPc := 9, handlerPc := 12, catchType := 19 }) (tableOf []) he4 rfl rfl (fun z hz => nomatch hz) (by decide) (by decide) q2348 q677 ?_
      refine sj_astore_n [(3, .ref e4), (0, .ref a1), (1, .int a2), (2, .ref a3)] dX0_passDays_12 (by decide) rfl ?_
      refine sj_iconst (v := 1) dX0_passDays_13 (by decide) ?_
      exact sj_iret (o := sd_oI) hf rfl rfl rfl dX0_passDays_14
    rw [if_neg z4_49] at hf
    cases hf
  refine sj_i2l dX0_passDays_7 ?_
  refine sj_last hf dX0_passDays_8 (fun h hf => ?_)
  refine sj_goto 15 dX0_passDays_9 (by decide) ?_
  refine sj_iconst (v := 0) dX0_passDays_15 (by decide) ?_
  exact sj_iret (o := sd_oI) hf rfl rfl rfl dX0_passDays_16
/-! SofaDigLaw.foundAfter(LSofaDig;I[J)I -/
abbrev cX0_foundAfter : ByteArray := method_25_code
def yX0_foundAfter : MethodName := ⟨RX0, "foundAfter", "(LSofaDig;I[J)I"⟩
def dkwX0_foundAfter_0 : List UInt8 := [44, 3, 42, 27, 182, 0, 85, 133, 80, 167, 0, 6, 78, 4, 172, 3, 172]
abbrev dktX0_foundAfter_0 : List UInt8 := dkwX0_foundAfter_0 ++ []
theorem dksX0_foundAfter_0 : cX0_foundAfter.data.toList.drop 0 = dktX0_foundAfter_0 := by decide +kernel
theorem dX0_foundAfter_0 : decode cX0_foundAfter 0 = .ok (.aload_n 2, 1) := dk_44 (dk_at dksX0_foundAfter_0 0 rfl rfl)
theorem dX0_foundAfter_1 : decode cX0_foundAfter 1 = .ok (.iconst 0, 1) := dk_3 (dk_at dksX0_foundAfter_0 1 rfl rfl)
theorem dX0_foundAfter_2 : decode cX0_foundAfter 2 = .ok (.aload_n 0, 1) := dk_42 (dk_at dksX0_foundAfter_0 2 rfl rfl)
theorem dX0_foundAfter_3 : decode cX0_foundAfter 3 = .ok (.iload_n 1, 1) := dk_27 (dk_at dksX0_foundAfter_0 3 rfl rfl)
theorem dX0_foundAfter_4 : decode cX0_foundAfter 4 = .ok (.invokevirtual 85, 3) := dk_182 0 85 (dk_at dksX0_foundAfter_0 4 rfl rfl)
theorem dX0_foundAfter_7 : decode cX0_foundAfter 7 = .ok (.i2l, 1) := dk_133 (dk_at dksX0_foundAfter_0 7 rfl rfl)
theorem dX0_foundAfter_8 : decode cX0_foundAfter 8 = .ok (.lastore, 1) := dk_80 (dk_at dksX0_foundAfter_0 8 rfl rfl)
theorem dX0_foundAfter_9 : decode cX0_foundAfter 9 = .ok (.goto 6, 3) := dk_167 0 6 (dk_at dksX0_foundAfter_0 9 rfl rfl)
theorem dX0_foundAfter_12 : decode cX0_foundAfter 12 = .ok (.astore_n 3, 1) := dk_78 (dk_at dksX0_foundAfter_0 12 rfl rfl)
theorem dX0_foundAfter_13 : decode cX0_foundAfter 13 = .ok (.iconst 1, 1) := dk_4 (dk_at dksX0_foundAfter_0 13 rfl rfl)
theorem dX0_foundAfter_14 : decode cX0_foundAfter 14 = .ok (.ireturn, 1) := dk_172 (dk_at dksX0_foundAfter_0 14 rfl rfl)
theorem dX0_foundAfter_15 : decode cX0_foundAfter 15 = .ok (.iconst 0, 1) := dk_3 (dk_at dksX0_foundAfter_0 15 rfl rfl)
theorem dX0_foundAfter_16 : decode cX0_foundAfter 16 = .ok (.ireturn, 1) := dk_172 (dk_at dksX0_foundAfter_0 16 rfl rfl)
abbrev mX0_foundAfter : sd_Y := (yX0_foundAfter, cX0_foundAfter, 4, some (.int), some [(0, 9, 12, 19)])
def fX0_foundAfter (G : sd_G) (a1 : Nat) (a2 : Int32) (a3 : Nat) : sd_M Int32 :=
  sd_bnd (sd_isC G 0 a1) fun _ =>
  sd_bx (fX1_foundAfter G a1 a2) (fun e4 =>
    sd_bnd (sd_own e4) fun k4 =>
    if k4 = 49 then (
      sd_ret 1)
    else sd_fail) fun r1 =>
  sd_bnd (sd_astL a3 0 (r1.toInt64)) fun _ =>
  sd_ret 0
set_option maxHeartbeats 4000000 in
theorem sX0_foundAfter (l : Launch) (hl : l.stackTraces = false) (G : sd_G) (a1 : Nat) (a2 : Int32) (a3 : Nat) (h : sd_H) (ρ : Int32) (cT : Nat × Nat) (h2 : sd_H) (hf : fX0_foundAfter G a1 a2 a3 h = some (ρ, cT, h2)) : sd_Met mX0_foundAfter ((l, G), (507, 15248), [.ref a1, .int a2, .ref a3], (sd_oI ρ, h2), cT) h := by
  refine sd_entryW rfl rfl (Nat.le_of_ble_eq_true rfl) ?_
  show sd_J mX0_foundAfter ((l, G), (507, 15248), [.ref a1, .int a2, .ref a3], (sd_oI ρ, h2), cT) 0 [(0, .ref a1), (1, .int a2), (2, .ref a3)] [] h cT
  unfold fX0_foundAfter at hf
  refine sj_aload_n 2 dX0_foundAfter_0 rfl ?_
  refine sj_iconst (v := 0) dX0_foundAfter_1 (by decide) ?_
  refine sj_aload_n 0 dX0_foundAfter_2 rfl ?_
  refine sj_iload_n 1 dX0_foundAfter_3 rfl ?_
  obtain ⟨fs4, he4, hf⟩ := sd_isC_some hf
  refine sj_xI (rest := [.int 0, .ref a3]) (fun _ _ _ e => sj_runV (n := 1) (As := [.int a2]) (rest := [.int 0, .ref a3]) (sX1_foundAfter l hl G a1 a2 h _ _ _ e) he4 rfl rfl rfl rfl q2741 q2742 q2743 q116 q2744 (by decide +kernel) rfl rfl ⟨Nat.le_of_ble_eq_true rfl, Nat.le_of_ble_eq_true rfl⟩ rfl (Nat.le_of_ble_eq_true rfl) dX0_foundAfter_4) hf (fun e4 h c hf => ?_) (fun r1 h c hf => ?_)
  · obtain ⟨ci4, fs4, he4, hf⟩ := sd_own_some hf
    by_cases z4_49 : ci4 = 49
    · rw [if_pos z4_49] at hf; subst z4_49
      refine sj_catch (tableOf []) ({ startPc := 0, endPc := 9, handlerPc := 12, catchType := 19 }) (tableOf []) he4 rfl rfl (fun z hz => nomatch hz) (by decide) (by decide) q2348 q677 ?_
      refine sj_astore_n [(3, .ref e4), (0, .ref a1), (1, .int a2), (2, .ref a3)] dX0_foundAfter_12 (by decide) rfl ?_
      refine sj_iconst (v := 1) dX0_foundAfter_13 (by decide) ?_
      exact sj_iret (o := sd_oI) hf rfl rfl rfl dX0_foundAfter_14
    rw [if_neg z4_49] at hf
    cases hf
  refine sj_i2l dX0_foundAfter_7 ?_
  refine sj_last hf dX0_foundAfter_8 (fun h hf => ?_)
  refine sj_goto 15 dX0_foundAfter_9 (by decide) ?_
  refine sj_iconst (v := 0) dX0_foundAfter_15 (by decide) ?_
  exact sj_iret (o := sd_oI) hf rfl rfl rfl dX0_foundAfter_16
/-! SofaDigLaw.daysUntilFound(LSofaDig;I[J)I -/
abbrev cX0_daysUntilFound : ByteArray := method_26_code
def yX0_daysUntilFound : MethodName := ⟨RX0, "daysUntilFound", "(LSofaDig;I[J)I"⟩
def dkwX0_daysUntilFound_0 : List UInt8 := [44, 3, 42, 27, 182, 0, 88, 133, 80, 167, 0, 6, 78, 4, 172, 3, 172]
abbrev dktX0_daysUntilFound_0 : List UInt8 := dkwX0_daysUntilFound_0 ++ []
theorem dksX0_daysUntilFound_0 : cX0_daysUntilFound.data.toList.drop 0 = dktX0_daysUntilFound_0 := by decide +kernel
theorem dX0_daysUntilFound_0 : decode cX0_daysUntilFound 0 = .ok (.aload_n 2, 1) := dk_44 (dk_at dksX0_daysUntilFound_0 0 rfl rfl)
theorem dX0_daysUntilFound_1 : decode cX0_daysUntilFound 1 = .ok (.iconst 0, 1) := dk_3 (dk_at dksX0_daysUntilFound_0 1 rfl rfl)
theorem dX0_daysUntilFound_2 : decode cX0_daysUntilFound 2 = .ok (.aload_n 0, 1) := dk_42 (dk_at dksX0_daysUntilFound_0 2 rfl rfl)
theorem dX0_daysUntilFound_3 : decode cX0_daysUntilFound 3 = .ok (.iload_n 1, 1) := dk_27 (dk_at dksX0_daysUntilFound_0 3 rfl rfl)
theorem dX0_daysUntilFound_4 : decode cX0_daysUntilFound 4 = .ok (.invokevirtual 88, 3) := dk_182 0 88 (dk_at dksX0_daysUntilFound_0 4 rfl rfl)
theorem dX0_daysUntilFound_7 : decode cX0_daysUntilFound 7 = .ok (.i2l, 1) := dk_133 (dk_at dksX0_daysUntilFound_0 7 rfl rfl)
theorem dX0_daysUntilFound_8 : decode cX0_daysUntilFound 8 = .ok (.lastore, 1) := dk_80 (dk_at dksX0_daysUntilFound_0 8 rfl rfl)
theorem dX0_daysUntilFound_9 : decode cX0_daysUntilFound 9 = .ok (.goto 6, 3) := dk_167 0 6 (dk_at dksX0_daysUntilFound_0 9 rfl rfl)
theorem dX0_daysUntilFound_12 : decode cX0_daysUntilFound 12 = .ok (.astore_n 3, 1) := dk_78 (dk_at dksX0_daysUntilFound_0 12 rfl rfl)
theorem dX0_daysUntilFound_13 : decode cX0_daysUntilFound 13 = .ok (.iconst 1, 1) := dk_4 (dk_at dksX0_daysUntilFound_0 13 rfl rfl)
theorem dX0_daysUntilFound_14 : decode cX0_daysUntilFound 14 = .ok (.ireturn, 1) := dk_172 (dk_at dksX0_daysUntilFound_0 14 rfl rfl)
theorem dX0_daysUntilFound_15 : decode cX0_daysUntilFound 15 = .ok (.iconst 0, 1) := dk_3 (dk_at dksX0_daysUntilFound_0 15 rfl rfl)
theorem dX0_daysUntilFound_16 : decode cX0_daysUntilFound 16 = .ok (.ireturn, 1) := dk_172 (dk_at dksX0_daysUntilFound_0 16 rfl rfl)
abbrev mX0_daysUntilFound : sd_Y := (yX0_daysUntilFound, cX0_daysUntilFound, 4, some (.int), some [(0, 9, 12, 24)])
def fX0_daysUntilFound (G : sd_G) (a1 : Nat) (a2 : Int32) (a3 : Nat) : sd_M Int32 :=
  sd_bnd (sd_isC G 0 a1) fun _ =>
  sd_bx (fX1_daysUntilFound G a1 a2) (fun e4 =>
    sd_bnd (sd_own e4) fun k4 =>
    if k4 = 50 then (
      sd_ret 1)
    else sd_fail) fun r1 =>
  sd_bnd (sd_astL a3 0 (r1.toInt64)) fun _ =>
  sd_ret 0
set_option maxHeartbeats 4000000 in
theorem sX0_daysUntilFound (l : Launch) (hl : l.stackTraces = false) (G : sd_G) (a1 : Nat) (a2 : Int32) (a3 : Nat) (h : sd_H) (ρ : Int32) (cT : Nat × Nat) (h2 : sd_H) (hf : fX0_daysUntilFound G a1 a2 a3 h = some (ρ, cT, h2)) : sd_Met mX0_daysUntilFound ((l, G), (507, 15249), [.ref a1, .int a2, .ref a3], (sd_oI ρ, h2), cT) h := by
  refine sd_entryW rfl rfl (Nat.le_of_ble_eq_true rfl) ?_
  show sd_J mX0_daysUntilFound ((l, G), (507, 15249), [.ref a1, .int a2, .ref a3], (sd_oI ρ, h2), cT) 0 [(0, .ref a1), (1, .int a2), (2, .ref a3)] [] h cT
  unfold fX0_daysUntilFound at hf
  refine sj_aload_n 2 dX0_daysUntilFound_0 rfl ?_
  refine sj_iconst (v := 0) dX0_daysUntilFound_1 (by decide) ?_
  refine sj_aload_n 0 dX0_daysUntilFound_2 rfl ?_
  refine sj_iload_n 1 dX0_daysUntilFound_3 rfl ?_
  obtain ⟨fs4, he4, hf⟩ := sd_isC_some hf
  refine sj_xI (rest := [.int 0, .ref a3]) (fun _ _ _ e => sj_runV (n := 1) (As := [.int a2]) (rest := [.int 0, .ref a3]) (sX1_daysUntilFound l hl G a1 a2 h _ _ _ e) he4 rfl rfl rfl rfl q2748 q2749 q2750 q116 q2751 (by decide +kernel) rfl rfl ⟨Nat.le_of_ble_eq_true rfl, Nat.le_of_ble_eq_true rfl⟩ rfl (Nat.le_of_ble_eq_true rfl) dX0_daysUntilFound_4) hf (fun e4 h c hf => ?_) (fun r1 h c hf => ?_)
  · obtain ⟨ci4, fs4, he4, hf⟩ := sd_own_some hf
    by_cases z4_50 : ci4 = 50
    · rw [if_pos z4_50] at hf; subst z4_50
      refine sj_catch (tableOf []) ({ startPc := 0, endPc := 9, handlerPc := 12, catchType := 24 }) (tableOf []) he4 rfl rfl (fun z hz => nomatch hz) (by decide) (by decide) q2367 q2399 ?_
      refine sj_astore_n [(3, .ref e4), (0, .ref a1), (1, .int a2), (2, .ref a3)] dX0_daysUntilFound_12 (by decide) rfl ?_
      refine sj_iconst (v := 1) dX0_daysUntilFound_13 (by decide) ?_
      exact sj_iret (o := sd_oI) hf rfl rfl rfl dX0_daysUntilFound_14
    rw [if_neg z4_50] at hf
    cases hf
  refine sj_i2l dX0_daysUntilFound_7 ?_
  refine sj_last hf dX0_daysUntilFound_8 (fun h hf => ?_)
  refine sj_goto 15 dX0_daysUntilFound_9 (by decide) ?_
  refine sj_iconst (v := 0) dX0_daysUntilFound_15 (by decide) ?_
  exact sj_iret (o := sd_oI) hf rfl rfl rfl dX0_daysUntilFound_16
/-! SofaDigLaw.wouldSlide(LSofaDig;I[J)I -/
abbrev cX0_wouldSlide : ByteArray := method_27_code
def yX0_wouldSlide : MethodName := ⟨RX0, "wouldSlide", "(LSofaDig;I[J)I"⟩
def dkwX0_wouldSlide_0 : List UInt8 := [44, 3, 42, 27, 182, 0, 91, 133, 80, 167, 0, 9, 78, 4, 172, 78, 5, 172, 3, 172]
abbrev dktX0_wouldSlide_0 : List UInt8 := dkwX0_wouldSlide_0 ++ []
theorem dksX0_wouldSlide_0 : cX0_wouldSlide.data.toList.drop 0 = dktX0_wouldSlide_0 := by decide +kernel
theorem dX0_wouldSlide_0 : decode cX0_wouldSlide 0 = .ok (.aload_n 2, 1) := dk_44 (dk_at dksX0_wouldSlide_0 0 rfl rfl)
theorem dX0_wouldSlide_1 : decode cX0_wouldSlide 1 = .ok (.iconst 0, 1) := dk_3 (dk_at dksX0_wouldSlide_0 1 rfl rfl)
theorem dX0_wouldSlide_2 : decode cX0_wouldSlide 2 = .ok (.aload_n 0, 1) := dk_42 (dk_at dksX0_wouldSlide_0 2 rfl rfl)
theorem dX0_wouldSlide_3 : decode cX0_wouldSlide 3 = .ok (.iload_n 1, 1) := dk_27 (dk_at dksX0_wouldSlide_0 3 rfl rfl)
theorem dX0_wouldSlide_4 : decode cX0_wouldSlide 4 = .ok (.invokevirtual 91, 3) := dk_182 0 91 (dk_at dksX0_wouldSlide_0 4 rfl rfl)
theorem dX0_wouldSlide_7 : decode cX0_wouldSlide 7 = .ok (.i2l, 1) := dk_133 (dk_at dksX0_wouldSlide_0 7 rfl rfl)
theorem dX0_wouldSlide_8 : decode cX0_wouldSlide 8 = .ok (.lastore, 1) := dk_80 (dk_at dksX0_wouldSlide_0 8 rfl rfl)
theorem dX0_wouldSlide_9 : decode cX0_wouldSlide 9 = .ok (.goto 9, 3) := dk_167 0 9 (dk_at dksX0_wouldSlide_0 9 rfl rfl)
theorem dX0_wouldSlide_12 : decode cX0_wouldSlide 12 = .ok (.astore_n 3, 1) := dk_78 (dk_at dksX0_wouldSlide_0 12 rfl rfl)
theorem dX0_wouldSlide_13 : decode cX0_wouldSlide 13 = .ok (.iconst 1, 1) := dk_4 (dk_at dksX0_wouldSlide_0 13 rfl rfl)
theorem dX0_wouldSlide_14 : decode cX0_wouldSlide 14 = .ok (.ireturn, 1) := dk_172 (dk_at dksX0_wouldSlide_0 14 rfl rfl)
theorem dX0_wouldSlide_15 : decode cX0_wouldSlide 15 = .ok (.astore_n 3, 1) := dk_78 (dk_at dksX0_wouldSlide_0 15 rfl rfl)
theorem dX0_wouldSlide_16 : decode cX0_wouldSlide 16 = .ok (.iconst 2, 1) := dk_5 (dk_at dksX0_wouldSlide_0 16 rfl rfl)
theorem dX0_wouldSlide_17 : decode cX0_wouldSlide 17 = .ok (.ireturn, 1) := dk_172 (dk_at dksX0_wouldSlide_0 17 rfl rfl)
theorem dX0_wouldSlide_18 : decode cX0_wouldSlide 18 = .ok (.iconst 0, 1) := dk_3 (dk_at dksX0_wouldSlide_0 18 rfl rfl)
theorem dX0_wouldSlide_19 : decode cX0_wouldSlide 19 = .ok (.ireturn, 1) := dk_172 (dk_at dksX0_wouldSlide_0 19 rfl rfl)
abbrev mX0_wouldSlide : sd_Y := (yX0_wouldSlide, cX0_wouldSlide, 4, some (.int), some [(0, 9, 12, 24), (0, 9, 15, 13)])
def fX0_wouldSlide (G : sd_G) (a1 : Nat) (a2 : Int32) (a3 : Nat) : sd_M Int32 :=
  sd_bnd (sd_isC G 0 a1) fun _ =>
  sd_bx (fX1_wouldSlide G a1 a2) (fun e4 =>
    sd_bnd (sd_own e4) fun k4 =>
    if k4 = 50 then (
      sd_ret 1)
    else if k4 = 48 then (
      sd_ret 2)
    else sd_fail) fun r1 =>
  sd_bnd (sd_astL a3 0 (r1.toInt64)) fun _ =>
  sd_ret 0
set_option maxHeartbeats 4000000 in
theorem sX0_wouldSlide (l : Launch) (hl : l.stackTraces = false) (G : sd_G) (a1 : Nat) (a2 : Int32) (a3 : Nat) (h : sd_H) (ρ : Int32) (cT : Nat × Nat) (h2 : sd_H) (hf : fX0_wouldSlide G a1 a2 a3 h = some (ρ, cT, h2)) : sd_Met mX0_wouldSlide ((l, G), (11, 239), [.ref a1, .int a2, .ref a3], (sd_oI ρ, h2), cT) h := by
  refine sd_entryW rfl rfl (Nat.le_of_ble_eq_true rfl) ?_
  show sd_J mX0_wouldSlide ((l, G), (11, 239), [.ref a1, .int a2, .ref a3], (sd_oI ρ, h2), cT) 0 [(0, .ref a1), (1, .int a2), (2, .ref a3)] [] h cT
  unfold fX0_wouldSlide at hf
  refine sj_aload_n 2 dX0_wouldSlide_0 rfl ?_
  refine sj_iconst (v := 0) dX0_wouldSlide_1 (by decide) ?_
  refine sj_aload_n 0 dX0_wouldSlide_2 rfl ?_
  refine sj_iload_n 1 dX0_wouldSlide_3 rfl ?_
  obtain ⟨fs4, he4, hf⟩ := sd_isC_some hf
  refine sj_xI (rest := [.int 0, .ref a3]) (fun _ _ _ e => sj_runV (n := 1) (As := [.int a2]) (rest := [.int 0, .ref a3]) (sX1_wouldSlide l hl G a1 a2 h _ _ _ e) he4 rfl rfl rfl rfl q2755 q2756 q2757 q116 q2758 (by decide +kernel) rfl rfl ⟨Nat.le_of_ble_eq_true rfl, Nat.le_of_ble_eq_true rfl⟩ rfl (Nat.le_of_ble_eq_true rfl) dX0_wouldSlide_4) hf (fun e4 h c hf => ?_) (fun r1 h c hf => ?_)
  · obtain ⟨ci4, fs4, he4, hf⟩ := sd_own_some hf
    by_cases z4_50 : ci4 = 50
    · rw [if_pos z4_50] at hf; subst z4_50
      refine sj_catch (tableOf []) ({ startPc := 0, endPc := 9, handlerPc := 12, catchType := 24 }) (tableOf [(0, 9, 15, 13)]) he4 rfl rfl (fun z hz => nomatch hz) (by decide) (by decide) q2367 q2399 ?_
      refine sj_astore_n [(3, .ref e4), (0, .ref a1), (1, .int a2), (2, .ref a3)] dX0_wouldSlide_12 (by decide) rfl ?_
      refine sj_iconst (v := 1) dX0_wouldSlide_13 (by decide) ?_
      exact sj_iret (o := sd_oI) hf rfl rfl rfl dX0_wouldSlide_14
    rw [if_neg z4_50] at hf
    by_cases z4_48 : ci4 = 48
    · rw [if_pos z4_48] at hf; subst z4_48
      refine sj_catch (tableOf [(0, 9, 12, 24)]) ({ startPc := 0, endPc := 9, handlerPc := 15, catchType := 13 }) (tableOf []) he4 rfl rfl (fun z hz => by rw [List.mem_singleton.mp hz]; exact Or.inr ⟨by decide, _, q2367, by decide⟩) (by decide) (by decide) q2315 q2325 ?_
      refine sj_astore_n [(3, .ref e4), (0, .ref a1), (1, .int a2), (2, .ref a3)] dX0_wouldSlide_15 (by decide) rfl ?_
      refine sj_iconst (v := 2) dX0_wouldSlide_16 (by decide) ?_
      exact sj_iret (o := sd_oI) hf rfl rfl rfl dX0_wouldSlide_17
    rw [if_neg z4_48] at hf
    cases hf
  refine sj_i2l dX0_wouldSlide_7 ?_
  refine sj_last hf dX0_wouldSlide_8 (fun h hf => ?_)
  refine sj_goto 18 dX0_wouldSlide_9 (by decide) ?_
  refine sj_iconst (v := 0) dX0_wouldSlide_18 (by decide) ?_
  exact sj_iret (o := sd_oI) hf rfl rfl rfl dX0_wouldSlide_19
