set_option maxRecDepth 100000
theorem q115 : (Jvm.Cond.initialized "SofaDigLaw") ∈ lw_all := lw_g (lw_at lw_m1 0 rfl) rfl
theorem q182 : (Jvm.Cond.classLink "SofaDigLaw" (8 : Nat) "SofaDig") ∈ lw_all := lw_g (lw_at lw_m1 67 rfl) rfl
theorem q183 : (Jvm.Cond.instantiable "SofaDig" (4 : Nat)) ∈ lw_all := lw_g (lw_at lw_m1 68 rfl) rfl
theorem q184 : (Jvm.Cond.methodLink "SofaDigLaw" (94 : Nat) ({ cls := "SofaDig", name := "<init>", desc := "()V" } : Jvm.MethodName)) ∈ lw_all := lw_g (lw_at lw_m1 69 rfl) rfl
theorem q185 : (Jvm.Cond.instanceMethod ({ cls := "SofaDig", name := "<init>", desc := "()V" } : Jvm.MethodName)) ∈ lw_all := lw_g (lw_at lw_m1 70 rfl) rfl
theorem q452 : (Jvm.Cond.methodLink "SofaDigLaw" (112 : Nat) ({ cls := "SofaDig", name := "teach", desc := "()I" } : Jvm.MethodName)) ∈ lw_all := lw_g (lw_at lw_m2 97 rfl) rfl
theorem q453 : (Jvm.Cond.instanceMethod ({ cls := "SofaDig", name := "teach", desc := "()I" } : Jvm.MethodName)) ∈ lw_all := lw_g (lw_at lw_m2 98 rfl) rfl
theorem q454 : (Jvm.Cond.selects "SofaDig" ({ cls := "SofaDig", name := "teach", desc := "()I" } : Jvm.MethodName) ({ cls := "SofaDig", name := "teach", desc := "()I" } : Jvm.MethodName)) ∈ lw_all := lw_g (lw_at lw_m2 99 rfl) rfl
theorem q2088 : (Jvm.Cond.methodLink "SofaDigLaw" (116 : Nat) ({ cls := "SofaDig", name := "errorAt", desc := "()I" } : Jvm.MethodName)) ∈ lw_all := lw_g (lw_at lw_m9 53 rfl) rfl
theorem q2089 : (Jvm.Cond.instanceMethod ({ cls := "SofaDig", name := "errorAt", desc := "()I" } : Jvm.MethodName)) ∈ lw_all := lw_g (lw_at lw_m9 54 rfl) rfl
theorem q2090 : (Jvm.Cond.selects "SofaDig" ({ cls := "SofaDig", name := "errorAt", desc := "()I" } : Jvm.MethodName) ({ cls := "SofaDig", name := "errorAt", desc := "()I" } : Jvm.MethodName)) ∈ lw_all := lw_g (lw_at lw_m9 55 rfl) rfl
theorem q2092 : (Jvm.Cond.methodLink "SofaDigLaw" (120 : Nat) ({ cls := "SofaDig", name := "seats", desc := "()I" } : Jvm.MethodName)) ∈ lw_all := lw_g (lw_at lw_m9 57 rfl) rfl
theorem q2096 : (Jvm.Cond.methodLink "SofaDigLaw" (124 : Nat) ({ cls := "SofaDig", name := "strata", desc := "()I" } : Jvm.MethodName)) ∈ lw_all := lw_g (lw_at lw_m9 61 rfl) rfl
theorem q2100 : (Jvm.Cond.methodLink "SofaDigLaw" (128 : Nat) ({ cls := "SofaDig", name := "finds", desc := "()I" } : Jvm.MethodName)) ∈ lw_all := lw_g (lw_at lw_m9 65 rfl) rfl
theorem q2105 : (Jvm.Cond.methodLink "SofaDigLaw" (132 : Nat) ({ cls := "SofaDig", name := "days", desc := "()I" } : Jvm.MethodName)) ∈ lw_all := lw_g (lw_at lw_m9 70 rfl) rfl
theorem q2109 : (Jvm.Cond.methodLink "SofaDigLaw" (136 : Nat) ({ cls := "SofaDig", name := "ordersCarriedOut", desc := "()I" } : Jvm.MethodName)) ∈ lw_all := lw_g (lw_at lw_m9 74 rfl) rfl
theorem q2113 : (Jvm.Cond.methodLink "SofaDigLaw" (140 : Nat) ({ cls := "SofaDig", name := "cushionsDug", desc := "()I" } : Jvm.MethodName)) ∈ lw_all := lw_g (lw_at lw_m9 78 rfl) rfl
theorem q2117 : (Jvm.Cond.methodLink "SofaDigLaw" (144 : Nat) ({ cls := "SofaDig", name := "slides", desc := "()I" } : Jvm.MethodName)) ∈ lw_all := lw_g (lw_at lw_m9 82 rfl) rfl
theorem q2121 : (Jvm.Cond.methodLink "SofaDigLaw" (148 : Nat) ({ cls := "SofaDig", name := "found", desc := "()I" } : Jvm.MethodName)) ∈ lw_all := lw_g (lw_at lw_m9 86 rfl) rfl
theorem q2130 : (Jvm.Cond.methodLink "SofaDigLaw" (152 : Nat) ({ cls := "SofaDig", name := "sureFinds", desc := "()I" } : Jvm.MethodName)) ∈ lw_all := lw_g (lw_at lw_m9 95 rfl) rfl
theorem q2138 : (Jvm.Cond.methodLink "SofaDigLaw" (156 : Nat) ({ cls := "SofaDig", name := "props", desc := "()I" } : Jvm.MethodName)) ∈ lw_all := lw_g (lw_at lw_m9 103 rfl) rfl
theorem q2139 : (Jvm.Cond.instanceMethod ({ cls := "SofaDig", name := "props", desc := "()I" } : Jvm.MethodName)) ∈ lw_all := lw_g (lw_at lw_m9 104 rfl) rfl
theorem q2140 : (Jvm.Cond.selects "SofaDig" ({ cls := "SofaDig", name := "props", desc := "()I" } : Jvm.MethodName) ({ cls := "SofaDig", name := "props", desc := "()I" } : Jvm.MethodName)) ∈ lw_all := lw_g (lw_at lw_m9 105 rfl) rfl
theorem q2150 : (Jvm.Cond.methodLink "SofaDigLaw" (230 : Nat) ({ cls := "SofaDig", name := "bestDig", desc := "()I" } : Jvm.MethodName)) ∈ lw_all := lw_g (lw_at lw_m9 115 rfl) rfl
theorem q2268 : (Jvm.Cond.methodLink "SofaDigLaw" (234 : Nat) ({ cls := "SofaDig", name := "meanYear", desc := "()D" } : Jvm.MethodName)) ∈ lw_all := lw_g (lw_at lw_m9 233 rfl) rfl
theorem q2269 : (Jvm.Cond.instanceMethod ({ cls := "SofaDig", name := "meanYear", desc := "()D" } : Jvm.MethodName)) ∈ lw_all := lw_g (lw_at lw_m9 234 rfl) rfl
theorem q2270 : (Jvm.Cond.selects "SofaDig" ({ cls := "SofaDig", name := "meanYear", desc := "()D" } : Jvm.MethodName) ({ cls := "SofaDig", name := "meanYear", desc := "()D" } : Jvm.MethodName)) ∈ lw_all := lw_g (lw_at lw_m9 235 rfl) rfl
theorem q2277 : (Jvm.Cond.methodLink "SofaDigLaw" (239 : Nat) ({ cls := "SofaDig", name := "digest", desc := "()J" } : Jvm.MethodName)) ∈ lw_all := lw_g (lw_at lw_m10 2 rfl) rfl
theorem q2278 : (Jvm.Cond.instanceMethod ({ cls := "SofaDig", name := "digest", desc := "()J" } : Jvm.MethodName)) ∈ lw_all := lw_g (lw_at lw_m10 3 rfl) rfl
theorem q2279 : (Jvm.Cond.selects "SofaDig" ({ cls := "SofaDig", name := "digest", desc := "()J" } : Jvm.MethodName) ({ cls := "SofaDig", name := "digest", desc := "()J" } : Jvm.MethodName)) ∈ lw_all := lw_g (lw_at lw_m10 4 rfl) rfl
theorem q2312 : (Jvm.Cond.methodLink "SofaDigLaw" (98 : Nat) ({ cls := "SofaDigLaw", name := "feed", desc := "(LSofaDig;IIIII[J)I" } : Jvm.MethodName)) ∈ lw_all := lw_g (lw_at lw_m10 37 rfl) rfl
theorem q2313 : (Jvm.Cond.static ({ cls := "SofaDigLaw", name := "feed", desc := "(LSofaDig;IIIII[J)I" } : Jvm.MethodName)) ∈ lw_all := lw_g (lw_at lw_m10 38 rfl) rfl
theorem q2345 : (Jvm.Cond.methodLink "SofaDigLaw" (108 : Nat) ({ cls := "SofaDigLaw", name := "trim", desc := "(LSofaDig;I[J)I" } : Jvm.MethodName)) ∈ lw_all := lw_g (lw_at lw_m10 70 rfl) rfl
theorem q2346 : (Jvm.Cond.static ({ cls := "SofaDigLaw", name := "trim", desc := "(LSofaDig;I[J)I" } : Jvm.MethodName)) ∈ lw_all := lw_g (lw_at lw_m10 71 rfl) rfl
theorem q2364 : (Jvm.Cond.methodLink "SofaDigLaw" (160 : Nat) ({ cls := "SofaDigLaw", name := "heightOf", desc := "(LSofaDig;I[J)I" } : Jvm.MethodName)) ∈ lw_all := lw_g (lw_at lw_m10 89 rfl) rfl
theorem q2365 : (Jvm.Cond.static ({ cls := "SofaDigLaw", name := "heightOf", desc := "(LSofaDig;I[J)I" } : Jvm.MethodName)) ∈ lw_all := lw_g (lw_at lw_m10 90 rfl) rfl
theorem q2412 : (Jvm.Cond.methodLink "SofaDigLaw" (163 : Nat) ({ cls := "SofaDigLaw", name := "isPropped", desc := "(LSofaDig;I[J)I" } : Jvm.MethodName)) ∈ lw_all := lw_g (lw_at lw_m10 137 rfl) rfl
theorem q2413 : (Jvm.Cond.static ({ cls := "SofaDigLaw", name := "isPropped", desc := "(LSofaDig;I[J)I" } : Jvm.MethodName)) ∈ lw_all := lw_g (lw_at lw_m10 138 rfl) rfl
theorem q2419 : (Jvm.Cond.methodLink "SofaDigLaw" (166 : Nat) ({ cls := "SofaDigLaw", name := "topStratum", desc := "(LSofaDig;I[J)I" } : Jvm.MethodName)) ∈ lw_all := lw_g (lw_at lw_m10 144 rfl) rfl
theorem q2420 : (Jvm.Cond.static ({ cls := "SofaDigLaw", name := "topStratum", desc := "(LSofaDig;I[J)I" } : Jvm.MethodName)) ∈ lw_all := lw_g (lw_at lw_m10 145 rfl) rfl
theorem q2430 : (Jvm.Cond.methodLink "SofaDigLaw" (169 : Nat) ({ cls := "SofaDigLaw", name := "isTopLoose", desc := "(LSofaDig;I[J)I" } : Jvm.MethodName)) ∈ lw_all := lw_g (lw_at lw_m10 155 rfl) rfl
theorem q2431 : (Jvm.Cond.static ({ cls := "SofaDigLaw", name := "isTopLoose", desc := "(LSofaDig;I[J)I" } : Jvm.MethodName)) ∈ lw_all := lw_g (lw_at lw_m10 156 rfl) rfl
theorem q2437 : (Jvm.Cond.methodLink "SofaDigLaw" (172 : Nat) ({ cls := "SofaDigLaw", name := "hasTopSpring", desc := "(LSofaDig;I[J)I" } : Jvm.MethodName)) ∈ lw_all := lw_g (lw_at lw_m10 162 rfl) rfl
theorem q2438 : (Jvm.Cond.static ({ cls := "SofaDigLaw", name := "hasTopSpring", desc := "(LSofaDig;I[J)I" } : Jvm.MethodName)) ∈ lw_all := lw_g (lw_at lw_m10 163 rfl) rfl
theorem q2444 : (Jvm.Cond.methodLink "SofaDigLaw" (175 : Nat) ({ cls := "SofaDigLaw", name := "findsLeft", desc := "(LSofaDig;I[J)I" } : Jvm.MethodName)) ∈ lw_all := lw_g (lw_at lw_m10 169 rfl) rfl
theorem q2445 : (Jvm.Cond.static ({ cls := "SofaDigLaw", name := "findsLeft", desc := "(LSofaDig;I[J)I" } : Jvm.MethodName)) ∈ lw_all := lw_g (lw_at lw_m10 170 rfl) rfl
theorem q2451 : (Jvm.Cond.methodLink "SofaDigLaw" (178 : Nat) ({ cls := "SofaDigLaw", name := "isCoin", desc := "(LSofaDig;I[J)I" } : Jvm.MethodName)) ∈ lw_all := lw_g (lw_at lw_m10 176 rfl) rfl
theorem q2452 : (Jvm.Cond.static ({ cls := "SofaDigLaw", name := "isCoin", desc := "(LSofaDig;I[J)I" } : Jvm.MethodName)) ∈ lw_all := lw_g (lw_at lw_m10 177 rfl) rfl
theorem q2475 : (Jvm.Cond.methodLink "SofaDigLaw" (181 : Nat) ({ cls := "SofaDigLaw", name := "isFound", desc := "(LSofaDig;I[J)I" } : Jvm.MethodName)) ∈ lw_all := lw_g (lw_at lw_m10 200 rfl) rfl
theorem q2476 : (Jvm.Cond.static ({ cls := "SofaDigLaw", name := "isFound", desc := "(LSofaDig;I[J)I" } : Jvm.MethodName)) ∈ lw_all := lw_g (lw_at lw_m10 201 rfl) rfl
theorem q2482 : (Jvm.Cond.methodLink "SofaDigLaw" (184 : Nat) ({ cls := "SofaDigLaw", name := "isSure", desc := "(LSofaDig;I[J)I" } : Jvm.MethodName)) ∈ lw_all := lw_g (lw_at lw_m10 207 rfl) rfl
theorem q2483 : (Jvm.Cond.static ({ cls := "SofaDigLaw", name := "isSure", desc := "(LSofaDig;I[J)I" } : Jvm.MethodName)) ∈ lw_all := lw_g (lw_at lw_m10 208 rfl) rfl
theorem q2490 : (Jvm.Cond.methodLink "SofaDigLaw" (187 : Nat) ({ cls := "SofaDigLaw", name := "stratumOf", desc := "(LSofaDig;I[J)I" } : Jvm.MethodName)) ∈ lw_all := lw_g (lw_at lw_m10 215 rfl) rfl
theorem q2491 : (Jvm.Cond.static ({ cls := "SofaDigLaw", name := "stratumOf", desc := "(LSofaDig;I[J)I" } : Jvm.MethodName)) ∈ lw_all := lw_g (lw_at lw_m10 216 rfl) rfl
theorem q2497 : (Jvm.Cond.methodLink "SofaDigLaw" (190 : Nat) ({ cls := "SofaDigLaw", name := "yearOf", desc := "(LSofaDig;I[J)I" } : Jvm.MethodName)) ∈ lw_all := lw_g (lw_at lw_m10 222 rfl) rfl
theorem q2498 : (Jvm.Cond.static ({ cls := "SofaDigLaw", name := "yearOf", desc := "(LSofaDig;I[J)I" } : Jvm.MethodName)) ∈ lw_all := lw_g (lw_at lw_m10 223 rfl) rfl
theorem q2504 : (Jvm.Cond.methodLink "SofaDigLaw" (193 : Nat) ({ cls := "SofaDigLaw", name := "empireOf", desc := "(LSofaDig;I[J)I" } : Jvm.MethodName)) ∈ lw_all := lw_g (lw_at lw_m10 229 rfl) rfl
theorem q2505 : (Jvm.Cond.static ({ cls := "SofaDigLaw", name := "empireOf", desc := "(LSofaDig;I[J)I" } : Jvm.MethodName)) ∈ lw_all := lw_g (lw_at lw_m10 230 rfl) rfl
theorem q2511 : (Jvm.Cond.methodLink "SofaDigLaw" (196 : Nat) ({ cls := "SofaDigLaw", name := "buriedUnder", desc := "(LSofaDig;I[J)I" } : Jvm.MethodName)) ∈ lw_all := lw_g (lw_at lw_m10 236 rfl) rfl
theorem q2512 : (Jvm.Cond.static ({ cls := "SofaDigLaw", name := "buriedUnder", desc := "(LSofaDig;I[J)I" } : Jvm.MethodName)) ∈ lw_all := lw_g (lw_at lw_m10 237 rfl) rfl
theorem q2522 : (Jvm.Cond.methodLink "SofaDigLaw" (199 : Nat) ({ cls := "SofaDigLaw", name := "notBefore", desc := "(LSofaDig;I[J)I" } : Jvm.MethodName)) ∈ lw_all := lw_g (lw_at lw_m11 7 rfl) rfl
theorem q2523 : (Jvm.Cond.static ({ cls := "SofaDigLaw", name := "notBefore", desc := "(LSofaDig;I[J)I" } : Jvm.MethodName)) ∈ lw_all := lw_g (lw_at lw_m11 8 rfl) rfl
theorem q2533 : (Jvm.Cond.methodLink "SofaDigLaw" (202 : Nat) ({ cls := "SofaDigLaw", name := "isSeenIn", desc := "(LSofaDig;II[J)I" } : Jvm.MethodName)) ∈ lw_all := lw_g (lw_at lw_m11 18 rfl) rfl
theorem q2534 : (Jvm.Cond.static ({ cls := "SofaDigLaw", name := "isSeenIn", desc := "(LSofaDig;II[J)I" } : Jvm.MethodName)) ∈ lw_all := lw_g (lw_at lw_m11 19 rfl) rfl
theorem q2541 : (Jvm.Cond.methodLink "SofaDigLaw" (206 : Nat) ({ cls := "SofaDigLaw", name := "isMixed", desc := "(LSofaDig;I[J)I" } : Jvm.MethodName)) ∈ lw_all := lw_g (lw_at lw_m11 26 rfl) rfl
theorem q2542 : (Jvm.Cond.static ({ cls := "SofaDigLaw", name := "isMixed", desc := "(LSofaDig;I[J)I" } : Jvm.MethodName)) ∈ lw_all := lw_g (lw_at lw_m11 27 rfl) rfl
theorem q2548 : (Jvm.Cond.methodLink "SofaDigLaw" (209 : Nat) ({ cls := "SofaDigLaw", name := "dig", desc := "(LSofaDig;I[J)I" } : Jvm.MethodName)) ∈ lw_all := lw_g (lw_at lw_m11 33 rfl) rfl
theorem q2549 : (Jvm.Cond.static ({ cls := "SofaDigLaw", name := "dig", desc := "(LSofaDig;I[J)I" } : Jvm.MethodName)) ∈ lw_all := lw_g (lw_at lw_m11 34 rfl) rfl
theorem q2555 : (Jvm.Cond.methodLink "SofaDigLaw" (212 : Nat) ({ cls := "SofaDigLaw", name := "prop", desc := "(LSofaDig;I[J)I" } : Jvm.MethodName)) ∈ lw_all := lw_g (lw_at lw_m11 40 rfl) rfl
theorem q2556 : (Jvm.Cond.static ({ cls := "SofaDigLaw", name := "prop", desc := "(LSofaDig;I[J)I" } : Jvm.MethodName)) ∈ lw_all := lw_g (lw_at lw_m11 41 rfl) rfl
theorem q2567 : (Jvm.Cond.methodLink "SofaDigLaw" (215 : Nat) ({ cls := "SofaDigLaw", name := "takeProp", desc := "(LSofaDig;I[J)I" } : Jvm.MethodName)) ∈ lw_all := lw_g (lw_at lw_m11 52 rfl) rfl
theorem q2568 : (Jvm.Cond.static ({ cls := "SofaDigLaw", name := "takeProp", desc := "(LSofaDig;I[J)I" } : Jvm.MethodName)) ∈ lw_all := lw_g (lw_at lw_m11 53 rfl) rfl
theorem q2579 : (Jvm.Cond.methodLink "SofaDigLaw" (218 : Nat) ({ cls := "SofaDigLaw", name := "passDays", desc := "(LSofaDig;I[J)I" } : Jvm.MethodName)) ∈ lw_all := lw_g (lw_at lw_m11 64 rfl) rfl
theorem q2580 : (Jvm.Cond.static ({ cls := "SofaDigLaw", name := "passDays", desc := "(LSofaDig;I[J)I" } : Jvm.MethodName)) ∈ lw_all := lw_g (lw_at lw_m11 65 rfl) rfl
theorem q2738 : (Jvm.Cond.methodLink "SofaDigLaw" (221 : Nat) ({ cls := "SofaDigLaw", name := "foundAfter", desc := "(LSofaDig;I[J)I" } : Jvm.MethodName)) ∈ lw_all := lw_g (lw_at lw_m11 223 rfl) rfl
theorem q2739 : (Jvm.Cond.static ({ cls := "SofaDigLaw", name := "foundAfter", desc := "(LSofaDig;I[J)I" } : Jvm.MethodName)) ∈ lw_all := lw_g (lw_at lw_m11 224 rfl) rfl
theorem q2745 : (Jvm.Cond.methodLink "SofaDigLaw" (224 : Nat) ({ cls := "SofaDigLaw", name := "daysUntilFound", desc := "(LSofaDig;I[J)I" } : Jvm.MethodName)) ∈ lw_all := lw_g (lw_at lw_m11 230 rfl) rfl
theorem q2746 : (Jvm.Cond.static ({ cls := "SofaDigLaw", name := "daysUntilFound", desc := "(LSofaDig;I[J)I" } : Jvm.MethodName)) ∈ lw_all := lw_g (lw_at lw_m11 231 rfl) rfl
theorem q2752 : (Jvm.Cond.methodLink "SofaDigLaw" (227 : Nat) ({ cls := "SofaDigLaw", name := "wouldSlide", desc := "(LSofaDig;I[J)I" } : Jvm.MethodName)) ∈ lw_all := lw_g (lw_at lw_m11 237 rfl) rfl
theorem q2753 : (Jvm.Cond.static ({ cls := "SofaDigLaw", name := "wouldSlide", desc := "(LSofaDig;I[J)I" } : Jvm.MethodName)) ∈ lw_all := lw_g (lw_at lw_m11 238 rfl) rfl
theorem q2759 : (Jvm.Cond.classLink "SofaDigLaw" (95 : Nat) "SofaDigModel") ∈ lw_all := lw_g (lw_at lw_m12 4 rfl) rfl
theorem q2760 : (Jvm.Cond.instantiable "SofaDigModel" (18 : Nat)) ∈ lw_all := lw_g (lw_at lw_m12 5 rfl) rfl
theorem q2761 : (Jvm.Cond.methodLink "SofaDigLaw" (97 : Nat) ({ cls := "SofaDigModel", name := "<init>", desc := "()V" } : Jvm.MethodName)) ∈ lw_all := lw_g (lw_at lw_m12 6 rfl) rfl
theorem q2762 : (Jvm.Cond.instanceMethod ({ cls := "SofaDigModel", name := "<init>", desc := "()V" } : Jvm.MethodName)) ∈ lw_all := lw_g (lw_at lw_m12 7 rfl) rfl
theorem q2905 : (Jvm.Cond.methodLink "SofaDigLaw" (104 : Nat) ({ cls := "SofaDigModel", name := "thrown", desc := "()I" } : Jvm.MethodName)) ∈ lw_all := lw_g (lw_at lw_m12 150 rfl) rfl
theorem q2906 : (Jvm.Cond.instanceMethod ({ cls := "SofaDigModel", name := "thrown", desc := "()I" } : Jvm.MethodName)) ∈ lw_all := lw_g (lw_at lw_m12 151 rfl) rfl
theorem q2907 : (Jvm.Cond.selects "SofaDigModel" ({ cls := "SofaDigModel", name := "thrown", desc := "()I" } : Jvm.MethodName) ({ cls := "SofaDigModel", name := "thrown", desc := "()I" } : Jvm.MethodName)) ∈ lw_all := lw_g (lw_at lw_m12 152 rfl) rfl
theorem q2909 : (Jvm.Cond.methodLink "SofaDigLaw" (103 : Nat) ({ cls := "SofaDigModel", name := "feed", desc := "(IIIII)I" } : Jvm.MethodName)) ∈ lw_all := lw_g (lw_at lw_m12 154 rfl) rfl
theorem q2910 : (Jvm.Cond.instanceMethod ({ cls := "SofaDigModel", name := "feed", desc := "(IIIII)I" } : Jvm.MethodName)) ∈ lw_all := lw_g (lw_at lw_m12 155 rfl) rfl
theorem q2911 : (Jvm.Cond.selects "SofaDigModel" ({ cls := "SofaDigModel", name := "feed", desc := "(IIIII)I" } : Jvm.MethodName) ({ cls := "SofaDigModel", name := "feed", desc := "(IIIII)I" } : Jvm.MethodName)) ∈ lw_all := lw_g (lw_at lw_m12 156 rfl) rfl
theorem q2917 : (Jvm.Cond.methodLink "SofaDigLaw" (111 : Nat) ({ cls := "SofaDigModel", name := "trim", desc := "(I)I" } : Jvm.MethodName)) ∈ lw_all := lw_g (lw_at lw_m12 162 rfl) rfl
theorem q2918 : (Jvm.Cond.instanceMethod ({ cls := "SofaDigModel", name := "trim", desc := "(I)I" } : Jvm.MethodName)) ∈ lw_all := lw_g (lw_at lw_m12 163 rfl) rfl
theorem q2919 : (Jvm.Cond.selects "SofaDigModel" ({ cls := "SofaDigModel", name := "trim", desc := "(I)I" } : Jvm.MethodName) ({ cls := "SofaDigModel", name := "trim", desc := "(I)I" } : Jvm.MethodName)) ∈ lw_all := lw_g (lw_at lw_m12 164 rfl) rfl
theorem q2924 : (Jvm.Cond.methodLink "SofaDigLaw" (115 : Nat) ({ cls := "SofaDigModel", name := "teach", desc := "()I" } : Jvm.MethodName)) ∈ lw_all := lw_g (lw_at lw_m12 169 rfl) rfl
theorem q2925 : (Jvm.Cond.instanceMethod ({ cls := "SofaDigModel", name := "teach", desc := "()I" } : Jvm.MethodName)) ∈ lw_all := lw_g (lw_at lw_m12 170 rfl) rfl
theorem q2926 : (Jvm.Cond.selects "SofaDigModel" ({ cls := "SofaDigModel", name := "teach", desc := "()I" } : Jvm.MethodName) ({ cls := "SofaDigModel", name := "teach", desc := "()I" } : Jvm.MethodName)) ∈ lw_all := lw_g (lw_at lw_m12 171 rfl) rfl
theorem q3109 : (Jvm.Cond.methodLink "SofaDigLaw" (119 : Nat) ({ cls := "SofaDigModel", name := "errorAt", desc := "()I" } : Jvm.MethodName)) ∈ lw_all := lw_g (lw_at lw_m13 114 rfl) rfl
theorem q3110 : (Jvm.Cond.instanceMethod ({ cls := "SofaDigModel", name := "errorAt", desc := "()I" } : Jvm.MethodName)) ∈ lw_all := lw_g (lw_at lw_m13 115 rfl) rfl
theorem q3111 : (Jvm.Cond.selects "SofaDigModel" ({ cls := "SofaDigModel", name := "errorAt", desc := "()I" } : Jvm.MethodName) ({ cls := "SofaDigModel", name := "errorAt", desc := "()I" } : Jvm.MethodName)) ∈ lw_all := lw_g (lw_at lw_m13 116 rfl) rfl
theorem q3117 : (Jvm.Cond.methodLink "SofaDigLaw" (123 : Nat) ({ cls := "SofaDigModel", name := "seats", desc := "()I" } : Jvm.MethodName)) ∈ lw_all := lw_g (lw_at lw_m13 122 rfl) rfl
theorem q3118 : (Jvm.Cond.instanceMethod ({ cls := "SofaDigModel", name := "seats", desc := "()I" } : Jvm.MethodName)) ∈ lw_all := lw_g (lw_at lw_m13 123 rfl) rfl
theorem q3119 : (Jvm.Cond.selects "SofaDigModel" ({ cls := "SofaDigModel", name := "seats", desc := "()I" } : Jvm.MethodName) ({ cls := "SofaDigModel", name := "seats", desc := "()I" } : Jvm.MethodName)) ∈ lw_all := lw_g (lw_at lw_m13 124 rfl) rfl
theorem q3121 : (Jvm.Cond.methodLink "SofaDigLaw" (127 : Nat) ({ cls := "SofaDigModel", name := "strata", desc := "()I" } : Jvm.MethodName)) ∈ lw_all := lw_g (lw_at lw_m13 126 rfl) rfl
theorem q3122 : (Jvm.Cond.instanceMethod ({ cls := "SofaDigModel", name := "strata", desc := "()I" } : Jvm.MethodName)) ∈ lw_all := lw_g (lw_at lw_m13 127 rfl) rfl
theorem q3123 : (Jvm.Cond.selects "SofaDigModel" ({ cls := "SofaDigModel", name := "strata", desc := "()I" } : Jvm.MethodName) ({ cls := "SofaDigModel", name := "strata", desc := "()I" } : Jvm.MethodName)) ∈ lw_all := lw_g (lw_at lw_m13 128 rfl) rfl
theorem q3125 : (Jvm.Cond.methodLink "SofaDigLaw" (131 : Nat) ({ cls := "SofaDigModel", name := "finds", desc := "()I" } : Jvm.MethodName)) ∈ lw_all := lw_g (lw_at lw_m13 130 rfl) rfl
theorem q3126 : (Jvm.Cond.instanceMethod ({ cls := "SofaDigModel", name := "finds", desc := "()I" } : Jvm.MethodName)) ∈ lw_all := lw_g (lw_at lw_m13 131 rfl) rfl
theorem q3127 : (Jvm.Cond.selects "SofaDigModel" ({ cls := "SofaDigModel", name := "finds", desc := "()I" } : Jvm.MethodName) ({ cls := "SofaDigModel", name := "finds", desc := "()I" } : Jvm.MethodName)) ∈ lw_all := lw_g (lw_at lw_m13 132 rfl) rfl
theorem q3129 : (Jvm.Cond.methodLink "SofaDigLaw" (135 : Nat) ({ cls := "SofaDigModel", name := "days", desc := "()I" } : Jvm.MethodName)) ∈ lw_all := lw_g (lw_at lw_m13 134 rfl) rfl
theorem q3130 : (Jvm.Cond.instanceMethod ({ cls := "SofaDigModel", name := "days", desc := "()I" } : Jvm.MethodName)) ∈ lw_all := lw_g (lw_at lw_m13 135 rfl) rfl
theorem q3131 : (Jvm.Cond.selects "SofaDigModel" ({ cls := "SofaDigModel", name := "days", desc := "()I" } : Jvm.MethodName) ({ cls := "SofaDigModel", name := "days", desc := "()I" } : Jvm.MethodName)) ∈ lw_all := lw_g (lw_at lw_m13 136 rfl) rfl
theorem q3133 : (Jvm.Cond.methodLink "SofaDigLaw" (139 : Nat) ({ cls := "SofaDigModel", name := "ordersCarriedOut", desc := "()I" } : Jvm.MethodName)) ∈ lw_all := lw_g (lw_at lw_m13 138 rfl) rfl
theorem q3134 : (Jvm.Cond.instanceMethod ({ cls := "SofaDigModel", name := "ordersCarriedOut", desc := "()I" } : Jvm.MethodName)) ∈ lw_all := lw_g (lw_at lw_m13 139 rfl) rfl
theorem q3135 : (Jvm.Cond.selects "SofaDigModel" ({ cls := "SofaDigModel", name := "ordersCarriedOut", desc := "()I" } : Jvm.MethodName) ({ cls := "SofaDigModel", name := "ordersCarriedOut", desc := "()I" } : Jvm.MethodName)) ∈ lw_all := lw_g (lw_at lw_m13 140 rfl) rfl
theorem q3137 : (Jvm.Cond.methodLink "SofaDigLaw" (143 : Nat) ({ cls := "SofaDigModel", name := "cushionsDug", desc := "()I" } : Jvm.MethodName)) ∈ lw_all := lw_g (lw_at lw_m13 142 rfl) rfl
theorem q3138 : (Jvm.Cond.instanceMethod ({ cls := "SofaDigModel", name := "cushionsDug", desc := "()I" } : Jvm.MethodName)) ∈ lw_all := lw_g (lw_at lw_m13 143 rfl) rfl
theorem q3139 : (Jvm.Cond.selects "SofaDigModel" ({ cls := "SofaDigModel", name := "cushionsDug", desc := "()I" } : Jvm.MethodName) ({ cls := "SofaDigModel", name := "cushionsDug", desc := "()I" } : Jvm.MethodName)) ∈ lw_all := lw_g (lw_at lw_m13 144 rfl) rfl
theorem q3141 : (Jvm.Cond.methodLink "SofaDigLaw" (147 : Nat) ({ cls := "SofaDigModel", name := "slides", desc := "()I" } : Jvm.MethodName)) ∈ lw_all := lw_g (lw_at lw_m13 146 rfl) rfl
theorem q3142 : (Jvm.Cond.instanceMethod ({ cls := "SofaDigModel", name := "slides", desc := "()I" } : Jvm.MethodName)) ∈ lw_all := lw_g (lw_at lw_m13 147 rfl) rfl
theorem q3143 : (Jvm.Cond.selects "SofaDigModel" ({ cls := "SofaDigModel", name := "slides", desc := "()I" } : Jvm.MethodName) ({ cls := "SofaDigModel", name := "slides", desc := "()I" } : Jvm.MethodName)) ∈ lw_all := lw_g (lw_at lw_m13 148 rfl) rfl
theorem q3145 : (Jvm.Cond.methodLink "SofaDigLaw" (151 : Nat) ({ cls := "SofaDigModel", name := "found", desc := "()I" } : Jvm.MethodName)) ∈ lw_all := lw_g (lw_at lw_m13 150 rfl) rfl
theorem q3146 : (Jvm.Cond.instanceMethod ({ cls := "SofaDigModel", name := "found", desc := "()I" } : Jvm.MethodName)) ∈ lw_all := lw_g (lw_at lw_m13 151 rfl) rfl
theorem q3147 : (Jvm.Cond.selects "SofaDigModel" ({ cls := "SofaDigModel", name := "found", desc := "()I" } : Jvm.MethodName) ({ cls := "SofaDigModel", name := "found", desc := "()I" } : Jvm.MethodName)) ∈ lw_all := lw_g (lw_at lw_m13 152 rfl) rfl
theorem q3156 : (Jvm.Cond.methodLink "SofaDigLaw" (155 : Nat) ({ cls := "SofaDigModel", name := "sureFinds", desc := "()I" } : Jvm.MethodName)) ∈ lw_all := lw_g (lw_at lw_m13 161 rfl) rfl
theorem q3157 : (Jvm.Cond.instanceMethod ({ cls := "SofaDigModel", name := "sureFinds", desc := "()I" } : Jvm.MethodName)) ∈ lw_all := lw_g (lw_at lw_m13 162 rfl) rfl
theorem q3158 : (Jvm.Cond.selects "SofaDigModel" ({ cls := "SofaDigModel", name := "sureFinds", desc := "()I" } : Jvm.MethodName) ({ cls := "SofaDigModel", name := "sureFinds", desc := "()I" } : Jvm.MethodName)) ∈ lw_all := lw_g (lw_at lw_m13 163 rfl) rfl
theorem q3160 : (Jvm.Cond.methodLink "SofaDigLaw" (159 : Nat) ({ cls := "SofaDigModel", name := "props", desc := "()I" } : Jvm.MethodName)) ∈ lw_all := lw_g (lw_at lw_m13 165 rfl) rfl
theorem q3161 : (Jvm.Cond.instanceMethod ({ cls := "SofaDigModel", name := "props", desc := "()I" } : Jvm.MethodName)) ∈ lw_all := lw_g (lw_at lw_m13 166 rfl) rfl
theorem q3162 : (Jvm.Cond.selects "SofaDigModel" ({ cls := "SofaDigModel", name := "props", desc := "()I" } : Jvm.MethodName) ({ cls := "SofaDigModel", name := "props", desc := "()I" } : Jvm.MethodName)) ∈ lw_all := lw_g (lw_at lw_m13 167 rfl) rfl
theorem q3170 : (Jvm.Cond.methodLink "SofaDigLaw" (162 : Nat) ({ cls := "SofaDigModel", name := "heightOf", desc := "(I)I" } : Jvm.MethodName)) ∈ lw_all := lw_g (lw_at lw_m13 175 rfl) rfl
theorem q3171 : (Jvm.Cond.instanceMethod ({ cls := "SofaDigModel", name := "heightOf", desc := "(I)I" } : Jvm.MethodName)) ∈ lw_all := lw_g (lw_at lw_m13 176 rfl) rfl
theorem q3172 : (Jvm.Cond.selects "SofaDigModel" ({ cls := "SofaDigModel", name := "heightOf", desc := "(I)I" } : Jvm.MethodName) ({ cls := "SofaDigModel", name := "heightOf", desc := "(I)I" } : Jvm.MethodName)) ∈ lw_all := lw_g (lw_at lw_m13 177 rfl) rfl
theorem q3182 : (Jvm.Cond.methodLink "SofaDigLaw" (165 : Nat) ({ cls := "SofaDigModel", name := "isPropped", desc := "(I)Z" } : Jvm.MethodName)) ∈ lw_all := lw_g (lw_at lw_m13 187 rfl) rfl
theorem q3183 : (Jvm.Cond.instanceMethod ({ cls := "SofaDigModel", name := "isPropped", desc := "(I)Z" } : Jvm.MethodName)) ∈ lw_all := lw_g (lw_at lw_m13 188 rfl) rfl
theorem q3184 : (Jvm.Cond.selects "SofaDigModel" ({ cls := "SofaDigModel", name := "isPropped", desc := "(I)Z" } : Jvm.MethodName) ({ cls := "SofaDigModel", name := "isPropped", desc := "(I)Z" } : Jvm.MethodName)) ∈ lw_all := lw_g (lw_at lw_m13 189 rfl) rfl
theorem q3194 : (Jvm.Cond.methodLink "SofaDigLaw" (168 : Nat) ({ cls := "SofaDigModel", name := "topStratum", desc := "(I)I" } : Jvm.MethodName)) ∈ lw_all := lw_g (lw_at lw_m13 199 rfl) rfl
theorem q3195 : (Jvm.Cond.instanceMethod ({ cls := "SofaDigModel", name := "topStratum", desc := "(I)I" } : Jvm.MethodName)) ∈ lw_all := lw_g (lw_at lw_m13 200 rfl) rfl
theorem q3196 : (Jvm.Cond.selects "SofaDigModel" ({ cls := "SofaDigModel", name := "topStratum", desc := "(I)I" } : Jvm.MethodName) ({ cls := "SofaDigModel", name := "topStratum", desc := "(I)I" } : Jvm.MethodName)) ∈ lw_all := lw_g (lw_at lw_m13 201 rfl) rfl
theorem q3206 : (Jvm.Cond.methodLink "SofaDigLaw" (171 : Nat) ({ cls := "SofaDigModel", name := "isTopLoose", desc := "(I)Z" } : Jvm.MethodName)) ∈ lw_all := lw_g (lw_at lw_m13 211 rfl) rfl
theorem q3207 : (Jvm.Cond.instanceMethod ({ cls := "SofaDigModel", name := "isTopLoose", desc := "(I)Z" } : Jvm.MethodName)) ∈ lw_all := lw_g (lw_at lw_m13 212 rfl) rfl
theorem q3208 : (Jvm.Cond.selects "SofaDigModel" ({ cls := "SofaDigModel", name := "isTopLoose", desc := "(I)Z" } : Jvm.MethodName) ({ cls := "SofaDigModel", name := "isTopLoose", desc := "(I)Z" } : Jvm.MethodName)) ∈ lw_all := lw_g (lw_at lw_m13 213 rfl) rfl
theorem q3210 : (Jvm.Cond.methodLink "SofaDigLaw" (174 : Nat) ({ cls := "SofaDigModel", name := "hasTopSpring", desc := "(I)Z" } : Jvm.MethodName)) ∈ lw_all := lw_g (lw_at lw_m13 215 rfl) rfl
theorem q3211 : (Jvm.Cond.instanceMethod ({ cls := "SofaDigModel", name := "hasTopSpring", desc := "(I)Z" } : Jvm.MethodName)) ∈ lw_all := lw_g (lw_at lw_m13 216 rfl) rfl
theorem q3212 : (Jvm.Cond.selects "SofaDigModel" ({ cls := "SofaDigModel", name := "hasTopSpring", desc := "(I)Z" } : Jvm.MethodName) ({ cls := "SofaDigModel", name := "hasTopSpring", desc := "(I)Z" } : Jvm.MethodName)) ∈ lw_all := lw_g (lw_at lw_m13 217 rfl) rfl
theorem q3214 : (Jvm.Cond.methodLink "SofaDigLaw" (177 : Nat) ({ cls := "SofaDigModel", name := "findsLeft", desc := "(I)I" } : Jvm.MethodName)) ∈ lw_all := lw_g (lw_at lw_m13 219 rfl) rfl
theorem q3215 : (Jvm.Cond.instanceMethod ({ cls := "SofaDigModel", name := "findsLeft", desc := "(I)I" } : Jvm.MethodName)) ∈ lw_all := lw_g (lw_at lw_m13 220 rfl) rfl
theorem q3216 : (Jvm.Cond.selects "SofaDigModel" ({ cls := "SofaDigModel", name := "findsLeft", desc := "(I)I" } : Jvm.MethodName) ({ cls := "SofaDigModel", name := "findsLeft", desc := "(I)I" } : Jvm.MethodName)) ∈ lw_all := lw_g (lw_at lw_m13 221 rfl) rfl
theorem q3222 : (Jvm.Cond.methodLink "SofaDigLaw" (180 : Nat) ({ cls := "SofaDigModel", name := "isCoin", desc := "(I)Z" } : Jvm.MethodName)) ∈ lw_all := lw_g (lw_at lw_m13 227 rfl) rfl
theorem q3223 : (Jvm.Cond.instanceMethod ({ cls := "SofaDigModel", name := "isCoin", desc := "(I)Z" } : Jvm.MethodName)) ∈ lw_all := lw_g (lw_at lw_m13 228 rfl) rfl
theorem q3224 : (Jvm.Cond.selects "SofaDigModel" ({ cls := "SofaDigModel", name := "isCoin", desc := "(I)Z" } : Jvm.MethodName) ({ cls := "SofaDigModel", name := "isCoin", desc := "(I)Z" } : Jvm.MethodName)) ∈ lw_all := lw_g (lw_at lw_m13 229 rfl) rfl
theorem q3230 : (Jvm.Cond.methodLink "SofaDigLaw" (183 : Nat) ({ cls := "SofaDigModel", name := "isFound", desc := "(I)Z" } : Jvm.MethodName)) ∈ lw_all := lw_g (lw_at lw_m13 235 rfl) rfl
theorem q3231 : (Jvm.Cond.instanceMethod ({ cls := "SofaDigModel", name := "isFound", desc := "(I)Z" } : Jvm.MethodName)) ∈ lw_all := lw_g (lw_at lw_m13 236 rfl) rfl
theorem q3232 : (Jvm.Cond.selects "SofaDigModel" ({ cls := "SofaDigModel", name := "isFound", desc := "(I)Z" } : Jvm.MethodName) ({ cls := "SofaDigModel", name := "isFound", desc := "(I)Z" } : Jvm.MethodName)) ∈ lw_all := lw_g (lw_at lw_m13 237 rfl) rfl
theorem q3234 : (Jvm.Cond.methodLink "SofaDigLaw" (186 : Nat) ({ cls := "SofaDigModel", name := "isSure", desc := "(I)Z" } : Jvm.MethodName)) ∈ lw_all := lw_g (lw_at lw_m13 239 rfl) rfl
theorem q3235 : (Jvm.Cond.instanceMethod ({ cls := "SofaDigModel", name := "isSure", desc := "(I)Z" } : Jvm.MethodName)) ∈ lw_all := lw_g (lw_at lw_m14 0 rfl) rfl
theorem q3236 : (Jvm.Cond.selects "SofaDigModel" ({ cls := "SofaDigModel", name := "isSure", desc := "(I)Z" } : Jvm.MethodName) ({ cls := "SofaDigModel", name := "isSure", desc := "(I)Z" } : Jvm.MethodName)) ∈ lw_all := lw_g (lw_at lw_m14 1 rfl) rfl
theorem q3242 : (Jvm.Cond.methodLink "SofaDigLaw" (189 : Nat) ({ cls := "SofaDigModel", name := "stratumOf", desc := "(I)I" } : Jvm.MethodName)) ∈ lw_all := lw_g (lw_at lw_m14 7 rfl) rfl
theorem q3243 : (Jvm.Cond.instanceMethod ({ cls := "SofaDigModel", name := "stratumOf", desc := "(I)I" } : Jvm.MethodName)) ∈ lw_all := lw_g (lw_at lw_m14 8 rfl) rfl
theorem q3244 : (Jvm.Cond.selects "SofaDigModel" ({ cls := "SofaDigModel", name := "stratumOf", desc := "(I)I" } : Jvm.MethodName) ({ cls := "SofaDigModel", name := "stratumOf", desc := "(I)I" } : Jvm.MethodName)) ∈ lw_all := lw_g (lw_at lw_m14 9 rfl) rfl
theorem q3250 : (Jvm.Cond.methodLink "SofaDigLaw" (192 : Nat) ({ cls := "SofaDigModel", name := "yearOf", desc := "(I)I" } : Jvm.MethodName)) ∈ lw_all := lw_g (lw_at lw_m14 15 rfl) rfl
theorem q3251 : (Jvm.Cond.instanceMethod ({ cls := "SofaDigModel", name := "yearOf", desc := "(I)I" } : Jvm.MethodName)) ∈ lw_all := lw_g (lw_at lw_m14 16 rfl) rfl
theorem q3252 : (Jvm.Cond.selects "SofaDigModel" ({ cls := "SofaDigModel", name := "yearOf", desc := "(I)I" } : Jvm.MethodName) ({ cls := "SofaDigModel", name := "yearOf", desc := "(I)I" } : Jvm.MethodName)) ∈ lw_all := lw_g (lw_at lw_m14 17 rfl) rfl
theorem q3258 : (Jvm.Cond.methodLink "SofaDigLaw" (195 : Nat) ({ cls := "SofaDigModel", name := "empireOf", desc := "(I)I" } : Jvm.MethodName)) ∈ lw_all := lw_g (lw_at lw_m14 23 rfl) rfl
theorem q3259 : (Jvm.Cond.instanceMethod ({ cls := "SofaDigModel", name := "empireOf", desc := "(I)I" } : Jvm.MethodName)) ∈ lw_all := lw_g (lw_at lw_m14 24 rfl) rfl
theorem q3260 : (Jvm.Cond.selects "SofaDigModel" ({ cls := "SofaDigModel", name := "empireOf", desc := "(I)I" } : Jvm.MethodName) ({ cls := "SofaDigModel", name := "empireOf", desc := "(I)I" } : Jvm.MethodName)) ∈ lw_all := lw_g (lw_at lw_m14 25 rfl) rfl
theorem q3262 : (Jvm.Cond.methodLink "SofaDigLaw" (198 : Nat) ({ cls := "SofaDigModel", name := "buriedUnder", desc := "(I)I" } : Jvm.MethodName)) ∈ lw_all := lw_g (lw_at lw_m14 27 rfl) rfl
theorem q3263 : (Jvm.Cond.instanceMethod ({ cls := "SofaDigModel", name := "buriedUnder", desc := "(I)I" } : Jvm.MethodName)) ∈ lw_all := lw_g (lw_at lw_m14 28 rfl) rfl
theorem q3264 : (Jvm.Cond.selects "SofaDigModel" ({ cls := "SofaDigModel", name := "buriedUnder", desc := "(I)I" } : Jvm.MethodName) ({ cls := "SofaDigModel", name := "buriedUnder", desc := "(I)I" } : Jvm.MethodName)) ∈ lw_all := lw_g (lw_at lw_m14 29 rfl) rfl
theorem q3270 : (Jvm.Cond.methodLink "SofaDigLaw" (201 : Nat) ({ cls := "SofaDigModel", name := "notBefore", desc := "(I)I" } : Jvm.MethodName)) ∈ lw_all := lw_g (lw_at lw_m14 35 rfl) rfl
theorem q3271 : (Jvm.Cond.instanceMethod ({ cls := "SofaDigModel", name := "notBefore", desc := "(I)I" } : Jvm.MethodName)) ∈ lw_all := lw_g (lw_at lw_m14 36 rfl) rfl
theorem q3272 : (Jvm.Cond.selects "SofaDigModel" ({ cls := "SofaDigModel", name := "notBefore", desc := "(I)I" } : Jvm.MethodName) ({ cls := "SofaDigModel", name := "notBefore", desc := "(I)I" } : Jvm.MethodName)) ∈ lw_all := lw_g (lw_at lw_m14 37 rfl) rfl
theorem q3283 : (Jvm.Cond.methodLink "SofaDigLaw" (205 : Nat) ({ cls := "SofaDigModel", name := "isSeenIn", desc := "(II)Z" } : Jvm.MethodName)) ∈ lw_all := lw_g (lw_at lw_m14 48 rfl) rfl
theorem q3284 : (Jvm.Cond.instanceMethod ({ cls := "SofaDigModel", name := "isSeenIn", desc := "(II)Z" } : Jvm.MethodName)) ∈ lw_all := lw_g (lw_at lw_m14 49 rfl) rfl
theorem q3285 : (Jvm.Cond.selects "SofaDigModel" ({ cls := "SofaDigModel", name := "isSeenIn", desc := "(II)Z" } : Jvm.MethodName) ({ cls := "SofaDigModel", name := "isSeenIn", desc := "(II)Z" } : Jvm.MethodName)) ∈ lw_all := lw_g (lw_at lw_m14 50 rfl) rfl
theorem q3291 : (Jvm.Cond.methodLink "SofaDigLaw" (208 : Nat) ({ cls := "SofaDigModel", name := "isMixed", desc := "(I)Z" } : Jvm.MethodName)) ∈ lw_all := lw_g (lw_at lw_m14 56 rfl) rfl
theorem q3292 : (Jvm.Cond.instanceMethod ({ cls := "SofaDigModel", name := "isMixed", desc := "(I)Z" } : Jvm.MethodName)) ∈ lw_all := lw_g (lw_at lw_m14 57 rfl) rfl
theorem q3293 : (Jvm.Cond.selects "SofaDigModel" ({ cls := "SofaDigModel", name := "isMixed", desc := "(I)Z" } : Jvm.MethodName) ({ cls := "SofaDigModel", name := "isMixed", desc := "(I)Z" } : Jvm.MethodName)) ∈ lw_all := lw_g (lw_at lw_m14 58 rfl) rfl
theorem q3299 : (Jvm.Cond.methodLink "SofaDigLaw" (211 : Nat) ({ cls := "SofaDigModel", name := "dig", desc := "(I)I" } : Jvm.MethodName)) ∈ lw_all := lw_g (lw_at lw_m14 64 rfl) rfl
theorem q3300 : (Jvm.Cond.instanceMethod ({ cls := "SofaDigModel", name := "dig", desc := "(I)I" } : Jvm.MethodName)) ∈ lw_all := lw_g (lw_at lw_m14 65 rfl) rfl
theorem q3301 : (Jvm.Cond.selects "SofaDigModel" ({ cls := "SofaDigModel", name := "dig", desc := "(I)I" } : Jvm.MethodName) ({ cls := "SofaDigModel", name := "dig", desc := "(I)I" } : Jvm.MethodName)) ∈ lw_all := lw_g (lw_at lw_m14 66 rfl) rfl
theorem q3319 : (Jvm.Cond.methodLink "SofaDigLaw" (214 : Nat) ({ cls := "SofaDigModel", name := "prop", desc := "(I)I" } : Jvm.MethodName)) ∈ lw_all := lw_g (lw_at lw_m14 84 rfl) rfl
theorem q3320 : (Jvm.Cond.instanceMethod ({ cls := "SofaDigModel", name := "prop", desc := "(I)I" } : Jvm.MethodName)) ∈ lw_all := lw_g (lw_at lw_m14 85 rfl) rfl
theorem q3321 : (Jvm.Cond.selects "SofaDigModel" ({ cls := "SofaDigModel", name := "prop", desc := "(I)I" } : Jvm.MethodName) ({ cls := "SofaDigModel", name := "prop", desc := "(I)I" } : Jvm.MethodName)) ∈ lw_all := lw_g (lw_at lw_m14 86 rfl) rfl
theorem q3327 : (Jvm.Cond.methodLink "SofaDigLaw" (217 : Nat) ({ cls := "SofaDigModel", name := "takeProp", desc := "(I)I" } : Jvm.MethodName)) ∈ lw_all := lw_g (lw_at lw_m14 92 rfl) rfl
theorem q3328 : (Jvm.Cond.instanceMethod ({ cls := "SofaDigModel", name := "takeProp", desc := "(I)I" } : Jvm.MethodName)) ∈ lw_all := lw_g (lw_at lw_m14 93 rfl) rfl
theorem q3329 : (Jvm.Cond.selects "SofaDigModel" ({ cls := "SofaDigModel", name := "takeProp", desc := "(I)I" } : Jvm.MethodName) ({ cls := "SofaDigModel", name := "takeProp", desc := "(I)I" } : Jvm.MethodName)) ∈ lw_all := lw_g (lw_at lw_m14 94 rfl) rfl
theorem q3331 : (Jvm.Cond.methodLink "SofaDigLaw" (220 : Nat) ({ cls := "SofaDigModel", name := "passDays", desc := "(I)I" } : Jvm.MethodName)) ∈ lw_all := lw_g (lw_at lw_m14 96 rfl) rfl
theorem q3332 : (Jvm.Cond.instanceMethod ({ cls := "SofaDigModel", name := "passDays", desc := "(I)I" } : Jvm.MethodName)) ∈ lw_all := lw_g (lw_at lw_m14 97 rfl) rfl
theorem q3333 : (Jvm.Cond.selects "SofaDigModel" ({ cls := "SofaDigModel", name := "passDays", desc := "(I)I" } : Jvm.MethodName) ({ cls := "SofaDigModel", name := "passDays", desc := "(I)I" } : Jvm.MethodName)) ∈ lw_all := lw_g (lw_at lw_m14 98 rfl) rfl
theorem q3371 : (Jvm.Cond.methodLink "SofaDigLaw" (223 : Nat) ({ cls := "SofaDigModel", name := "foundAfter", desc := "(I)I" } : Jvm.MethodName)) ∈ lw_all := lw_g (lw_at lw_m14 136 rfl) rfl
theorem q3372 : (Jvm.Cond.instanceMethod ({ cls := "SofaDigModel", name := "foundAfter", desc := "(I)I" } : Jvm.MethodName)) ∈ lw_all := lw_g (lw_at lw_m14 137 rfl) rfl
theorem q3373 : (Jvm.Cond.selects "SofaDigModel" ({ cls := "SofaDigModel", name := "foundAfter", desc := "(I)I" } : Jvm.MethodName) ({ cls := "SofaDigModel", name := "foundAfter", desc := "(I)I" } : Jvm.MethodName)) ∈ lw_all := lw_g (lw_at lw_m14 138 rfl) rfl
theorem q3384 : (Jvm.Cond.methodLink "SofaDigLaw" (226 : Nat) ({ cls := "SofaDigModel", name := "daysUntilFound", desc := "(I)I" } : Jvm.MethodName)) ∈ lw_all := lw_g (lw_at lw_m14 149 rfl) rfl
theorem q3385 : (Jvm.Cond.instanceMethod ({ cls := "SofaDigModel", name := "daysUntilFound", desc := "(I)I" } : Jvm.MethodName)) ∈ lw_all := lw_g (lw_at lw_m14 150 rfl) rfl
theorem q3386 : (Jvm.Cond.selects "SofaDigModel" ({ cls := "SofaDigModel", name := "daysUntilFound", desc := "(I)I" } : Jvm.MethodName) ({ cls := "SofaDigModel", name := "daysUntilFound", desc := "(I)I" } : Jvm.MethodName)) ∈ lw_all := lw_g (lw_at lw_m14 151 rfl) rfl
theorem q3388 : (Jvm.Cond.methodLink "SofaDigLaw" (229 : Nat) ({ cls := "SofaDigModel", name := "wouldSlide", desc := "(I)I" } : Jvm.MethodName)) ∈ lw_all := lw_g (lw_at lw_m14 153 rfl) rfl
theorem q3389 : (Jvm.Cond.instanceMethod ({ cls := "SofaDigModel", name := "wouldSlide", desc := "(I)I" } : Jvm.MethodName)) ∈ lw_all := lw_g (lw_at lw_m14 154 rfl) rfl
theorem q3390 : (Jvm.Cond.selects "SofaDigModel" ({ cls := "SofaDigModel", name := "wouldSlide", desc := "(I)I" } : Jvm.MethodName) ({ cls := "SofaDigModel", name := "wouldSlide", desc := "(I)I" } : Jvm.MethodName)) ∈ lw_all := lw_g (lw_at lw_m14 155 rfl) rfl
theorem q3396 : (Jvm.Cond.methodLink "SofaDigLaw" (233 : Nat) ({ cls := "SofaDigModel", name := "bestDig", desc := "()I" } : Jvm.MethodName)) ∈ lw_all := lw_g (lw_at lw_m14 161 rfl) rfl
theorem q3397 : (Jvm.Cond.instanceMethod ({ cls := "SofaDigModel", name := "bestDig", desc := "()I" } : Jvm.MethodName)) ∈ lw_all := lw_g (lw_at lw_m14 162 rfl) rfl
theorem q3398 : (Jvm.Cond.selects "SofaDigModel" ({ cls := "SofaDigModel", name := "bestDig", desc := "()I" } : Jvm.MethodName) ({ cls := "SofaDigModel", name := "bestDig", desc := "()I" } : Jvm.MethodName)) ∈ lw_all := lw_g (lw_at lw_m14 163 rfl) rfl
theorem q3404 : (Jvm.Cond.methodLink "SofaDigLaw" (238 : Nat) ({ cls := "SofaDigModel", name := "meanYear", desc := "()D" } : Jvm.MethodName)) ∈ lw_all := lw_g (lw_at lw_m14 169 rfl) rfl
theorem q3405 : (Jvm.Cond.instanceMethod ({ cls := "SofaDigModel", name := "meanYear", desc := "()D" } : Jvm.MethodName)) ∈ lw_all := lw_g (lw_at lw_m14 170 rfl) rfl
theorem q3406 : (Jvm.Cond.selects "SofaDigModel" ({ cls := "SofaDigModel", name := "meanYear", desc := "()D" } : Jvm.MethodName) ({ cls := "SofaDigModel", name := "meanYear", desc := "()D" } : Jvm.MethodName)) ∈ lw_all := lw_g (lw_at lw_m14 171 rfl) rfl
theorem q3408 : (Jvm.Cond.methodLink "SofaDigLaw" (243 : Nat) ({ cls := "SofaDigModel", name := "digest", desc := "()J" } : Jvm.MethodName)) ∈ lw_all := lw_g (lw_at lw_m14 173 rfl) rfl
theorem q3409 : (Jvm.Cond.instanceMethod ({ cls := "SofaDigModel", name := "digest", desc := "()J" } : Jvm.MethodName)) ∈ lw_all := lw_g (lw_at lw_m14 174 rfl) rfl
theorem q3410 : (Jvm.Cond.selects "SofaDigModel" ({ cls := "SofaDigModel", name := "digest", desc := "()J" } : Jvm.MethodName) ({ cls := "SofaDigModel", name := "digest", desc := "()J" } : Jvm.MethodName)) ∈ lw_all := lw_g (lw_at lw_m14 175 rfl) rfl
/-! SofaDigLaw.law([I)Z -/
abbrev cL_law : ByteArray := code
/-! the law -/
def dkwL_law_77 : List UInt8 := [148, 153, 0, 5, 3, 172, 132, 4, 6, 167, 248, 112, 4, 172]
abbrev dktL_law_77 : List UInt8 := dkwL_law_77 ++ []
def dkwL_law_76 : List UInt8 := [153, 0, 11, 24, 7, 24, 7, 151, 154, 0, 5, 3, 172, 167, 0, 17, 43, 182, 0, 239, 44, 182, 0, 243]
abbrev dktL_law_76 : List UInt8 := dkwL_law_76 ++ dktL_law_77
def dkwL_law_75 : List UInt8 := [182, 0, 234, 57, 5, 44, 182, 0, 238, 57, 7, 24, 5, 24, 7, 151, 153, 0, 21, 24, 5, 24, 5, 151]
abbrev dktL_law_75 : List UInt8 := dkwL_law_75 ++ dktL_law_76
def dkwL_law_74 : List UInt8 := [153, 0, 5, 3, 172, 167, 0, 71, 43, 182, 0, 230, 44, 182, 0, 233, 159, 0, 60, 3, 172, 43]
abbrev dktL_law_74 : List UInt8 := dkwL_law_74 ++ dktL_law_75
def dkwL_law_73 : List UInt8 := [182, 0, 104, 21, 5, 159, 0, 5, 3, 172, 21, 5, 154, 0, 15, 45, 3, 47, 21, 6, 133, 148]
abbrev dktL_law_73 : List UInt8 := dkwL_law_73 ++ dktL_law_74
def dkwL_law_72 : List UInt8 := [21, 4, 4, 96, 46, 45, 184, 0, 227, 54, 5, 44, 42, 21, 4, 4, 96, 46, 182, 0, 229, 54, 6, 44]
abbrev dktL_law_72 : List UInt8 := dkwL_law_72 ++ dktL_law_73
def dkwL_law_71 : List UInt8 := [172, 21, 5, 154, 0, 15, 45, 3, 47, 21, 6, 133, 148, 153, 0, 5, 3, 172, 167, 0, 127, 43, 42]
abbrev dktL_law_71 : List UInt8 := dkwL_law_71 ++ dktL_law_72
def dkwL_law_70 : List UInt8 := [54, 5, 44, 42, 21, 4, 4, 96, 46, 182, 0, 226, 54, 6, 44, 182, 0, 104, 21, 5, 159, 0, 5, 3]
abbrev dktL_law_70 : List UInt8 := dkwL_law_70 ++ dktL_law_71
def dkwL_law_69 : List UInt8 := [21, 6, 133, 148, 153, 0, 5, 3, 172, 167, 0, 183, 43, 42, 21, 4, 4, 96, 46, 45, 184, 0, 224]
abbrev dktL_law_69 : List UInt8 := dkwL_law_69 ++ dktL_law_70
def dkwL_law_68 : List UInt8 := [182, 0, 223, 54, 6, 44, 182, 0, 104, 21, 5, 159, 0, 5, 3, 172, 21, 5, 154, 0, 15, 45, 3, 47]
abbrev dktL_law_68 : List UInt8 := dkwL_law_68 ++ dktL_law_69
def dkwL_law_67 : List UInt8 := [167, 0, 239, 43, 42, 21, 4, 4, 96, 46, 45, 184, 0, 221, 54, 5, 44, 42, 21, 4, 4, 96, 46]
abbrev dktL_law_67 : List UInt8 := dkwL_law_67 ++ dktL_law_68
def dkwL_law_66 : List UInt8 := [21, 5, 159, 0, 5, 3, 172, 21, 5, 154, 0, 15, 45, 3, 47, 21, 6, 133, 148, 153, 0, 5, 3, 172]
abbrev dktL_law_66 : List UInt8 := dkwL_law_66 ++ dktL_law_67
def dkwL_law_65 : List UInt8 := [46, 45, 184, 0, 218, 54, 5, 44, 42, 21, 4, 4, 96, 46, 182, 0, 220, 54, 6, 44, 182, 0, 104]
abbrev dktL_law_65 : List UInt8 := dkwL_law_65 ++ dktL_law_66
def dkwL_law_64 : List UInt8 := [154, 0, 15, 45, 3, 47, 21, 6, 133, 148, 153, 0, 5, 3, 172, 167, 1, 39, 43, 42, 21, 4, 4, 96]
abbrev dktL_law_64 : List UInt8 := dkwL_law_64 ++ dktL_law_65
def dkwL_law_63 : List UInt8 := [21, 4, 4, 96, 46, 182, 0, 217, 54, 6, 44, 182, 0, 104, 21, 5, 159, 0, 5, 3, 172, 21, 5]
abbrev dktL_law_63 : List UInt8 := dkwL_law_63 ++ dktL_law_64
def dkwL_law_62 : List UInt8 := [153, 0, 5, 3, 172, 167, 1, 95, 43, 42, 21, 4, 4, 96, 46, 45, 184, 0, 215, 54, 5, 44, 42]
abbrev dktL_law_62 : List UInt8 := dkwL_law_62 ++ dktL_law_63
def dkwL_law_61 : List UInt8 := [182, 0, 104, 21, 5, 159, 0, 5, 3, 172, 21, 5, 154, 0, 15, 45, 3, 47, 21, 6, 133, 148]
abbrev dktL_law_61 : List UInt8 := dkwL_law_61 ++ dktL_law_62
def dkwL_law_60 : List UInt8 := [21, 4, 4, 96, 46, 45, 184, 0, 212, 54, 5, 44, 42, 21, 4, 4, 96, 46, 182, 0, 214, 54, 6, 44]
abbrev dktL_law_60 : List UInt8 := dkwL_law_60 ++ dktL_law_61
def dkwL_law_59 : List UInt8 := [172, 21, 5, 154, 0, 15, 45, 3, 47, 21, 6, 133, 148, 153, 0, 5, 3, 172, 167, 1, 151, 43, 42]
abbrev dktL_law_59 : List UInt8 := dkwL_law_59 ++ dktL_law_60
def dkwL_law_58 : List UInt8 := [54, 5, 44, 42, 21, 4, 4, 96, 46, 182, 0, 211, 54, 6, 44, 182, 0, 104, 21, 5, 159, 0, 5, 3]
abbrev dktL_law_58 : List UInt8 := dkwL_law_58 ++ dktL_law_59
def dkwL_law_57 : List UInt8 := [167, 0, 4, 9, 148, 153, 0, 5, 3, 172, 167, 1, 207, 43, 42, 21, 4, 4, 96, 46, 45, 184, 0, 209]
abbrev dktL_law_57 : List UInt8 := dkwL_law_57 ++ dktL_law_58
def dkwL_law_56 : List UInt8 := [182, 0, 104, 21, 5, 159, 0, 5, 3, 172, 21, 5, 154, 0, 22, 45, 3, 47, 21, 6, 153, 0, 7, 10]
abbrev dktL_law_56 : List UInt8 := dkwL_law_56 ++ dktL_law_57
def dkwL_law_55 : List UInt8 := [21, 4, 4, 96, 46, 45, 184, 0, 206, 54, 5, 44, 42, 21, 4, 4, 96, 46, 182, 0, 208, 54, 6, 44]
abbrev dktL_law_55 : List UInt8 := dkwL_law_55 ++ dktL_law_56
def dkwL_law_54 : List UInt8 := [3, 47, 21, 6, 153, 0, 7, 10, 167, 0, 4, 9, 148, 153, 0, 5, 3, 172, 167, 2, 14, 43, 42]
abbrev dktL_law_54 : List UInt8 := dkwL_law_54 ++ dktL_law_55
def dkwL_law_53 : List UInt8 := [96, 46, 182, 0, 205, 54, 6, 44, 182, 0, 104, 21, 5, 159, 0, 5, 3, 172, 21, 5, 154, 0, 22, 45]
abbrev dktL_law_53 : List UInt8 := dkwL_law_53 ++ dktL_law_54
def dkwL_law_52 : List UInt8 := [46, 42, 21, 4, 5, 96, 46, 45, 184, 0, 202, 54, 5, 44, 42, 21, 4, 4, 96, 46, 42, 21, 4, 5]
abbrev dktL_law_52 : List UInt8 := dkwL_law_52 ++ dktL_law_53
def dkwL_law_51 : List UInt8 := [154, 0, 15, 45, 3, 47, 21, 6, 133, 148, 153, 0, 5, 3, 172, 167, 2, 89, 43, 42, 21, 4, 4, 96]
abbrev dktL_law_51 : List UInt8 := dkwL_law_51 ++ dktL_law_52
def dkwL_law_50 : List UInt8 := [21, 4, 4, 96, 46, 182, 0, 201, 54, 6, 44, 182, 0, 104, 21, 5, 159, 0, 5, 3, 172, 21, 5]
abbrev dktL_law_50 : List UInt8 := dkwL_law_50 ++ dktL_law_51
def dkwL_law_49 : List UInt8 := [153, 0, 5, 3, 172, 167, 2, 145, 43, 42, 21, 4, 4, 96, 46, 45, 184, 0, 199, 54, 5, 44, 42]
abbrev dktL_law_49 : List UInt8 := dkwL_law_49 ++ dktL_law_50
def dkwL_law_48 : List UInt8 := [182, 0, 104, 21, 5, 159, 0, 5, 3, 172, 21, 5, 154, 0, 15, 45, 3, 47, 21, 6, 133, 148]
abbrev dktL_law_48 : List UInt8 := dkwL_law_48 ++ dktL_law_49
def dkwL_law_47 : List UInt8 := [21, 4, 4, 96, 46, 45, 184, 0, 196, 54, 5, 44, 42, 21, 4, 4, 96, 46, 182, 0, 198, 54, 6, 44]
abbrev dktL_law_47 : List UInt8 := dkwL_law_47 ++ dktL_law_48
def dkwL_law_46 : List UInt8 := [172, 21, 5, 154, 0, 15, 45, 3, 47, 21, 6, 133, 148, 153, 0, 5, 3, 172, 167, 2, 201, 43, 42]
abbrev dktL_law_46 : List UInt8 := dkwL_law_46 ++ dktL_law_47
def dkwL_law_45 : List UInt8 := [54, 5, 44, 42, 21, 4, 4, 96, 46, 182, 0, 195, 54, 6, 44, 182, 0, 104, 21, 5, 159, 0, 5, 3]
abbrev dktL_law_45 : List UInt8 := dkwL_law_45 ++ dktL_law_46
def dkwL_law_44 : List UInt8 := [21, 6, 133, 148, 153, 0, 5, 3, 172, 167, 3, 1, 43, 42, 21, 4, 4, 96, 46, 45, 184, 0, 193]
abbrev dktL_law_44 : List UInt8 := dkwL_law_44 ++ dktL_law_45
def dkwL_law_43 : List UInt8 := [182, 0, 192, 54, 6, 44, 182, 0, 104, 21, 5, 159, 0, 5, 3, 172, 21, 5, 154, 0, 15, 45, 3, 47]
abbrev dktL_law_43 : List UInt8 := dkwL_law_43 ++ dktL_law_44
def dkwL_law_42 : List UInt8 := [167, 3, 57, 43, 42, 21, 4, 4, 96, 46, 45, 184, 0, 190, 54, 5, 44, 42, 21, 4, 4, 96, 46]
abbrev dktL_law_42 : List UInt8 := dkwL_law_42 ++ dktL_law_43
def dkwL_law_41 : List UInt8 := [21, 5, 159, 0, 5, 3, 172, 21, 5, 154, 0, 15, 45, 3, 47, 21, 6, 133, 148, 153, 0, 5, 3, 172]
abbrev dktL_law_41 : List UInt8 := dkwL_law_41 ++ dktL_law_42
def dkwL_law_40 : List UInt8 := [96, 46, 45, 184, 0, 187, 54, 5, 44, 42, 21, 4, 4, 96, 46, 182, 0, 189, 54, 6, 44, 182, 0, 104]
abbrev dktL_law_40 : List UInt8 := dkwL_law_40 ++ dktL_law_41
def dkwL_law_39 : List UInt8 := [21, 6, 153, 0, 7, 10, 167, 0, 4, 9, 148, 153, 0, 5, 3, 172, 167, 3, 113, 43, 42, 21, 4, 4]
abbrev dktL_law_39 : List UInt8 := dkwL_law_39 ++ dktL_law_40
def dkwL_law_38 : List UInt8 := [182, 0, 186, 54, 6, 44, 182, 0, 104, 21, 5, 159, 0, 5, 3, 172, 21, 5, 154, 0, 22, 45, 3, 47]
abbrev dktL_law_38 : List UInt8 := dkwL_law_38 ++ dktL_law_39
def dkwL_law_37 : List UInt8 := [167, 3, 176, 43, 42, 21, 4, 4, 96, 46, 45, 184, 0, 184, 54, 5, 44, 42, 21, 4, 4, 96, 46]
abbrev dktL_law_37 : List UInt8 := dkwL_law_37 ++ dktL_law_38
def dkwL_law_36 : List UInt8 := [154, 0, 22, 45, 3, 47, 21, 6, 153, 0, 7, 10, 167, 0, 4, 9, 148, 153, 0, 5, 3, 172]
abbrev dktL_law_36 : List UInt8 := dkwL_law_36 ++ dktL_law_37
def dkwL_law_35 : List UInt8 := [42, 21, 4, 4, 96, 46, 182, 0, 183, 54, 6, 44, 182, 0, 104, 21, 5, 159, 0, 5, 3, 172, 21, 5]
abbrev dktL_law_35 : List UInt8 := dkwL_law_35 ++ dktL_law_36
def dkwL_law_34 : List UInt8 := [9, 148, 153, 0, 5, 3, 172, 167, 3, 239, 43, 42, 21, 4, 4, 96, 46, 45, 184, 0, 181, 54, 5, 44]
abbrev dktL_law_34 : List UInt8 := dkwL_law_34 ++ dktL_law_35
def dkwL_law_33 : List UInt8 := [21, 5, 159, 0, 5, 3, 172, 21, 5, 154, 0, 22, 45, 3, 47, 21, 6, 153, 0, 7, 10, 167, 0, 4]
abbrev dktL_law_33 : List UInt8 := dkwL_law_33 ++ dktL_law_34
def dkwL_law_32 : List UInt8 := [46, 45, 184, 0, 178, 54, 5, 44, 42, 21, 4, 4, 96, 46, 182, 0, 180, 54, 6, 44, 182, 0, 104]
abbrev dktL_law_32 : List UInt8 := dkwL_law_32 ++ dktL_law_33
def dkwL_law_31 : List UInt8 := [154, 0, 15, 45, 3, 47, 21, 6, 133, 148, 153, 0, 5, 3, 172, 167, 4, 46, 43, 42, 21, 4, 4, 96]
abbrev dktL_law_31 : List UInt8 := dkwL_law_31 ++ dktL_law_32
def dkwL_law_30 : List UInt8 := [42, 21, 4, 4, 96, 46, 182, 0, 177, 54, 6, 44, 182, 0, 104, 21, 5, 159, 0, 5, 3, 172, 21, 5]
abbrev dktL_law_30 : List UInt8 := dkwL_law_30 ++ dktL_law_31
def dkwL_law_29 : List UInt8 := [9, 148, 153, 0, 5, 3, 172, 167, 4, 102, 43, 42, 21, 4, 4, 96, 46, 45, 184, 0, 175, 54, 5, 44]
abbrev dktL_law_29 : List UInt8 := dkwL_law_29 ++ dktL_law_30
def dkwL_law_28 : List UInt8 := [21, 5, 159, 0, 5, 3, 172, 21, 5, 154, 0, 22, 45, 3, 47, 21, 6, 153, 0, 7, 10, 167, 0, 4]
abbrev dktL_law_28 : List UInt8 := dkwL_law_28 ++ dktL_law_29
def dkwL_law_27 : List UInt8 := [96, 46, 45, 184, 0, 172, 54, 5, 44, 42, 21, 4, 4, 96, 46, 182, 0, 174, 54, 6, 44, 182, 0, 104]
abbrev dktL_law_27 : List UInt8 := dkwL_law_27 ++ dktL_law_28
def dkwL_law_26 : List UInt8 := [21, 6, 153, 0, 7, 10, 167, 0, 4, 9, 148, 153, 0, 5, 3, 172, 167, 4, 165, 43, 42, 21, 4, 4]
abbrev dktL_law_26 : List UInt8 := dkwL_law_26 ++ dktL_law_27
def dkwL_law_25 : List UInt8 := [182, 0, 171, 54, 6, 44, 182, 0, 104, 21, 5, 159, 0, 5, 3, 172, 21, 5, 154, 0, 22, 45, 3, 47]
abbrev dktL_law_25 : List UInt8 := dkwL_law_25 ++ dktL_law_26
def dkwL_law_24 : List UInt8 := [167, 4, 228, 43, 42, 21, 4, 4, 96, 46, 45, 184, 0, 169, 54, 5, 44, 42, 21, 4, 4, 96, 46]
abbrev dktL_law_24 : List UInt8 := dkwL_law_24 ++ dktL_law_25
def dkwL_law_23 : List UInt8 := [21, 5, 159, 0, 5, 3, 172, 21, 5, 154, 0, 15, 45, 3, 47, 21, 6, 133, 148, 153, 0, 5, 3, 172]
abbrev dktL_law_23 : List UInt8 := dkwL_law_23 ++ dktL_law_24
def dkwL_law_22 : List UInt8 := [96, 46, 45, 184, 0, 166, 54, 5, 44, 42, 21, 4, 4, 96, 46, 182, 0, 168, 54, 6, 44, 182, 0, 104]
abbrev dktL_law_22 : List UInt8 := dkwL_law_22 ++ dktL_law_23
def dkwL_law_21 : List UInt8 := [21, 6, 153, 0, 7, 10, 167, 0, 4, 9, 148, 153, 0, 5, 3, 172, 167, 5, 28, 43, 42, 21, 4, 4]
abbrev dktL_law_21 : List UInt8 := dkwL_law_21 ++ dktL_law_22
def dkwL_law_20 : List UInt8 := [182, 0, 165, 54, 6, 44, 182, 0, 104, 21, 5, 159, 0, 5, 3, 172, 21, 5, 154, 0, 22, 45, 3, 47]
abbrev dktL_law_20 : List UInt8 := dkwL_law_20 ++ dktL_law_21
def dkwL_law_19 : List UInt8 := [167, 5, 91, 43, 42, 21, 4, 4, 96, 46, 45, 184, 0, 163, 54, 5, 44, 42, 21, 4, 4, 96, 46]
abbrev dktL_law_19 : List UInt8 := dkwL_law_19 ++ dktL_law_20
def dkwL_law_18 : List UInt8 := [159, 0, 5, 3, 172, 21, 5, 154, 0, 15, 45, 3, 47, 21, 6, 133, 148, 153, 0, 5, 3, 172]
abbrev dktL_law_18 : List UInt8 := dkwL_law_18 ++ dktL_law_19
def dkwL_law_17 : List UInt8 := [184, 0, 160, 54, 5, 44, 42, 21, 4, 4, 96, 46, 182, 0, 162, 54, 6, 44, 182, 0, 104, 21, 5]
abbrev dktL_law_17 : List UInt8 := dkwL_law_17 ++ dktL_law_18
def dkwL_law_16 : List UInt8 := [172, 43, 182, 0, 156, 44, 182, 0, 159, 159, 5, 149, 3, 172, 43, 42, 21, 4, 4, 96, 46, 45]
abbrev dktL_law_16 : List UInt8 := dkwL_law_16 ++ dktL_law_17
def dkwL_law_15 : List UInt8 := [182, 0, 148, 44, 182, 0, 151, 159, 5, 175, 3, 172, 43, 182, 0, 152, 44, 182, 0, 155, 159, 5, 162, 3]
abbrev dktL_law_15 : List UInt8 := dkwL_law_15 ++ dktL_law_16
def dkwL_law_14 : List UInt8 := [182, 0, 143, 159, 5, 201, 3, 172, 43, 182, 0, 144, 44, 182, 0, 147, 159, 5, 188, 3, 172, 43]
abbrev dktL_law_14 : List UInt8 := dkwL_law_14 ++ dktL_law_15
def dkwL_law_13 : List UInt8 := [159, 5, 227, 3, 172, 43, 182, 0, 136, 44, 182, 0, 139, 159, 5, 214, 3, 172, 43, 182, 0, 140, 44]
abbrev dktL_law_13 : List UInt8 := dkwL_law_13 ++ dktL_law_14
def dkwL_law_12 : List UInt8 := [172, 43, 182, 0, 128, 44, 182, 0, 131, 159, 5, 240, 3, 172, 43, 182, 0, 132, 44, 182, 0, 135]
abbrev dktL_law_12 : List UInt8 := dkwL_law_12 ++ dktL_law_13
def dkwL_law_11 : List UInt8 := [182, 0, 120, 44, 182, 0, 123, 159, 6, 10, 3, 172, 43, 182, 0, 124, 44, 182, 0, 127, 159, 5, 253, 3]
abbrev dktL_law_11 : List UInt8 := dkwL_law_11 ++ dktL_law_12
def dkwL_law_10 : List UInt8 := [182, 0, 115, 159, 6, 36, 3, 172, 43, 182, 0, 116, 44, 182, 0, 119, 159, 6, 23, 3, 172, 43]
abbrev dktL_law_10 : List UInt8 := dkwL_law_10 ++ dktL_law_11
def dkwL_law_9 : List UInt8 := [154, 0, 15, 45, 3, 47, 21, 6, 133, 148, 153, 0, 5, 3, 172, 167, 6, 47, 43, 182, 0, 112, 44]
abbrev dktL_law_9 : List UInt8 := dkwL_law_9 ++ dktL_law_10
def dkwL_law_8 : List UInt8 := [21, 4, 4, 96, 46, 182, 0, 111, 54, 6, 44, 182, 0, 104, 21, 5, 159, 0, 5, 3, 172, 21, 5]
abbrev dktL_law_8 : List UInt8 := dkwL_law_8 ++ dktL_law_9
def dkwL_law_7 : List UInt8 := [148, 153, 0, 5, 3, 172, 167, 6, 103, 43, 42, 21, 4, 4, 96, 46, 45, 184, 0, 108, 54, 5, 44, 42]
abbrev dktL_law_7 : List UInt8 := dkwL_law_7 ++ dktL_law_8
def dkwL_law_6 : List UInt8 := [54, 6, 44, 182, 0, 104, 21, 5, 159, 0, 5, 3, 172, 21, 5, 154, 0, 15, 45, 3, 47, 21, 6, 133]
abbrev dktL_law_6 : List UInt8 := dkwL_law_6 ++ dktL_law_7
def dkwL_law_5 : List UInt8 := [96, 46, 42, 21, 4, 6, 96, 46, 42, 21, 4, 7, 96, 46, 42, 21, 4, 8, 96, 46, 182, 0, 103]
abbrev dktL_law_5 : List UInt8 := dkwL_law_5 ++ dktL_law_6
def dkwL_law_4 : List UInt8 := [46, 42, 21, 4, 8, 96, 46, 45, 184, 0, 98, 54, 5, 44, 42, 21, 4, 4, 96, 46, 42, 21, 4, 5]
abbrev dktL_law_4 : List UInt8 := dkwL_law_4 ++ dktL_law_5
def dkwL_law_3 : List UInt8 := [43, 42, 21, 4, 4, 96, 46, 42, 21, 4, 5, 96, 46, 42, 21, 4, 6, 96, 46, 42, 21, 4, 7, 96]
abbrev dktL_law_3 : List UInt8 := dkwL_law_3 ++ dktL_law_4
def dkwL_law_2 : List UInt8 := [170, 0, 0, 0, 0, 0, 7, 124, 0, 0, 0, 0, 0, 0, 0, 39, 0, 0, 0, 176, 0, 0, 1, 24, 0, 0, 1, 80, 0, 0, 1, 93, 0, 0, 1, 106, 0, 0, 1, 119, 0, 0, 1, 132, 0, 0, 1, 145, 0, 0, 1, 158, 0, 0, 1, 171, 0, 0, 1, 184, 0, 0, 1, 197, 0, 0, 1, 210, 0, 0, 1, 223, 0, 0, 1, 236, 0, 0, 2, 36, 0, 0, 2, 99, 0, 0, 2, 155, 0, 0, 2, 218, 0, 0, 3, 25, 0, 0, 3, 81, 0, 0, 3, 144, 0, 0, 3, 207, 0, 0, 4, 14, 0, 0, 4, 70, 0, 0, 4, 126, 0, 0, 4, 182, 0, 0, 4, 238, 0, 0, 5, 38, 0, 0, 5, 113, 0, 0, 5, 176, 0, 0, 5, 232, 0, 0, 6, 32, 0, 0, 6, 88, 0, 0, 6, 144, 0, 0, 6, 200, 0, 0, 7, 0, 0, 0, 7, 56, 0, 0, 7, 69, 0, 0, 7, 110]
abbrev dktL_law_2 : List UInt8 := dkwL_law_2 ++ dktL_law_3
def dkwL_law_1 : List UInt8 := [21, 4, 42, 190, 16, 6, 100, 163, 7, 140, 42, 21, 4, 46, 16, 63, 126]
abbrev dktL_law_1 : List UInt8 := dkwL_law_1 ++ dktL_law_2
def dkwL_law_0 : List UInt8 := [187, 0, 8, 89, 183, 0, 94, 76, 187, 0, 95, 89, 183, 0, 97, 77, 4, 188, 11, 78, 3, 54, 4]
abbrev dktL_law_0 : List UInt8 := dkwL_law_0 ++ dktL_law_1
theorem dksL_law_0 : cL_law.data.toList.drop 0 = dktL_law_0 := by decide +kernel
theorem dksL_law_1 : cL_law.data.toList.drop 23 = dktL_law_1 := dk_seg dksL_law_0 23 rfl rfl
theorem dksL_law_2 : cL_law.data.toList.drop 40 = dktL_law_2 := dk_seg dksL_law_1 17 rfl rfl
theorem dksL_law_3 : cL_law.data.toList.drop 216 = dktL_law_3 := dk_seg dksL_law_2 176 rfl rfl
theorem dksL_law_4 : cL_law.data.toList.drop 240 = dktL_law_4 := dk_seg dksL_law_3 24 rfl rfl
theorem dksL_law_5 : cL_law.data.toList.drop 264 = dktL_law_5 := dk_seg dksL_law_4 24 rfl rfl
theorem dksL_law_6 : cL_law.data.toList.drop 287 = dktL_law_6 := dk_seg dksL_law_5 23 rfl rfl
theorem dksL_law_7 : cL_law.data.toList.drop 311 = dktL_law_7 := dk_seg dksL_law_6 24 rfl rfl
theorem dksL_law_8 : cL_law.data.toList.drop 335 = dktL_law_8 := dk_seg dksL_law_7 24 rfl rfl
theorem dksL_law_9 : cL_law.data.toList.drop 358 = dktL_law_9 := dk_seg dksL_law_8 23 rfl rfl
theorem dksL_law_10 : cL_law.data.toList.drop 381 = dktL_law_10 := dk_seg dksL_law_9 23 rfl rfl
theorem dksL_law_11 : cL_law.data.toList.drop 403 = dktL_law_11 := dk_seg dksL_law_10 22 rfl rfl
theorem dksL_law_12 : cL_law.data.toList.drop 427 = dktL_law_12 := dk_seg dksL_law_11 24 rfl rfl
theorem dksL_law_13 : cL_law.data.toList.drop 449 = dktL_law_13 := dk_seg dksL_law_12 22 rfl rfl
theorem dksL_law_14 : cL_law.data.toList.drop 472 = dktL_law_14 := dk_seg dksL_law_13 23 rfl rfl
theorem dksL_law_15 : cL_law.data.toList.drop 494 = dktL_law_15 := dk_seg dksL_law_14 22 rfl rfl
theorem dksL_law_16 : cL_law.data.toList.drop 518 = dktL_law_16 := dk_seg dksL_law_15 24 rfl rfl
theorem dksL_law_17 : cL_law.data.toList.drop 540 = dktL_law_17 := dk_seg dksL_law_16 22 rfl rfl
theorem dksL_law_18 : cL_law.data.toList.drop 563 = dktL_law_18 := dk_seg dksL_law_17 23 rfl rfl
theorem dksL_law_19 : cL_law.data.toList.drop 585 = dktL_law_19 := dk_seg dksL_law_18 22 rfl rfl
theorem dksL_law_20 : cL_law.data.toList.drop 608 = dktL_law_20 := dk_seg dksL_law_19 23 rfl rfl
theorem dksL_law_21 : cL_law.data.toList.drop 632 = dktL_law_21 := dk_seg dksL_law_20 24 rfl rfl
theorem dksL_law_22 : cL_law.data.toList.drop 656 = dktL_law_22 := dk_seg dksL_law_21 24 rfl rfl
theorem dksL_law_23 : cL_law.data.toList.drop 680 = dktL_law_23 := dk_seg dksL_law_22 24 rfl rfl
theorem dksL_law_24 : cL_law.data.toList.drop 704 = dktL_law_24 := dk_seg dksL_law_23 24 rfl rfl
theorem dksL_law_25 : cL_law.data.toList.drop 727 = dktL_law_25 := dk_seg dksL_law_24 23 rfl rfl
theorem dksL_law_26 : cL_law.data.toList.drop 751 = dktL_law_26 := dk_seg dksL_law_25 24 rfl rfl
theorem dksL_law_27 : cL_law.data.toList.drop 775 = dktL_law_27 := dk_seg dksL_law_26 24 rfl rfl
theorem dksL_law_28 : cL_law.data.toList.drop 799 = dktL_law_28 := dk_seg dksL_law_27 24 rfl rfl
theorem dksL_law_29 : cL_law.data.toList.drop 823 = dktL_law_29 := dk_seg dksL_law_28 24 rfl rfl
theorem dksL_law_30 : cL_law.data.toList.drop 847 = dktL_law_30 := dk_seg dksL_law_29 24 rfl rfl
theorem dksL_law_31 : cL_law.data.toList.drop 871 = dktL_law_31 := dk_seg dksL_law_30 24 rfl rfl
theorem dksL_law_32 : cL_law.data.toList.drop 895 = dktL_law_32 := dk_seg dksL_law_31 24 rfl rfl
theorem dksL_law_33 : cL_law.data.toList.drop 918 = dktL_law_33 := dk_seg dksL_law_32 23 rfl rfl
theorem dksL_law_34 : cL_law.data.toList.drop 942 = dktL_law_34 := dk_seg dksL_law_33 24 rfl rfl
theorem dksL_law_35 : cL_law.data.toList.drop 966 = dktL_law_35 := dk_seg dksL_law_34 24 rfl rfl
theorem dksL_law_36 : cL_law.data.toList.drop 990 = dktL_law_36 := dk_seg dksL_law_35 24 rfl rfl
theorem dksL_law_37 : cL_law.data.toList.drop 1012 = dktL_law_37 := dk_seg dksL_law_36 22 rfl rfl
theorem dksL_law_38 : cL_law.data.toList.drop 1035 = dktL_law_38 := dk_seg dksL_law_37 23 rfl rfl
theorem dksL_law_39 : cL_law.data.toList.drop 1059 = dktL_law_39 := dk_seg dksL_law_38 24 rfl rfl
theorem dksL_law_40 : cL_law.data.toList.drop 1083 = dktL_law_40 := dk_seg dksL_law_39 24 rfl rfl
theorem dksL_law_41 : cL_law.data.toList.drop 1107 = dktL_law_41 := dk_seg dksL_law_40 24 rfl rfl
theorem dksL_law_42 : cL_law.data.toList.drop 1131 = dktL_law_42 := dk_seg dksL_law_41 24 rfl rfl
theorem dksL_law_43 : cL_law.data.toList.drop 1154 = dktL_law_43 := dk_seg dksL_law_42 23 rfl rfl
theorem dksL_law_44 : cL_law.data.toList.drop 1178 = dktL_law_44 := dk_seg dksL_law_43 24 rfl rfl
theorem dksL_law_45 : cL_law.data.toList.drop 1201 = dktL_law_45 := dk_seg dksL_law_44 23 rfl rfl
theorem dksL_law_46 : cL_law.data.toList.drop 1225 = dktL_law_46 := dk_seg dksL_law_45 24 rfl rfl
theorem dksL_law_47 : cL_law.data.toList.drop 1248 = dktL_law_47 := dk_seg dksL_law_46 23 rfl rfl
theorem dksL_law_48 : cL_law.data.toList.drop 1272 = dktL_law_48 := dk_seg dksL_law_47 24 rfl rfl
theorem dksL_law_49 : cL_law.data.toList.drop 1294 = dktL_law_49 := dk_seg dksL_law_48 22 rfl rfl
theorem dksL_law_50 : cL_law.data.toList.drop 1317 = dktL_law_50 := dk_seg dksL_law_49 23 rfl rfl
theorem dksL_law_51 : cL_law.data.toList.drop 1340 = dktL_law_51 := dk_seg dksL_law_50 23 rfl rfl
theorem dksL_law_52 : cL_law.data.toList.drop 1364 = dktL_law_52 := dk_seg dksL_law_51 24 rfl rfl
theorem dksL_law_53 : cL_law.data.toList.drop 1388 = dktL_law_53 := dk_seg dksL_law_52 24 rfl rfl
theorem dksL_law_54 : cL_law.data.toList.drop 1412 = dktL_law_54 := dk_seg dksL_law_53 24 rfl rfl
theorem dksL_law_55 : cL_law.data.toList.drop 1435 = dktL_law_55 := dk_seg dksL_law_54 23 rfl rfl
theorem dksL_law_56 : cL_law.data.toList.drop 1459 = dktL_law_56 := dk_seg dksL_law_55 24 rfl rfl
theorem dksL_law_57 : cL_law.data.toList.drop 1483 = dktL_law_57 := dk_seg dksL_law_56 24 rfl rfl
theorem dksL_law_58 : cL_law.data.toList.drop 1507 = dktL_law_58 := dk_seg dksL_law_57 24 rfl rfl
theorem dksL_law_59 : cL_law.data.toList.drop 1531 = dktL_law_59 := dk_seg dksL_law_58 24 rfl rfl
theorem dksL_law_60 : cL_law.data.toList.drop 1554 = dktL_law_60 := dk_seg dksL_law_59 23 rfl rfl
theorem dksL_law_61 : cL_law.data.toList.drop 1578 = dktL_law_61 := dk_seg dksL_law_60 24 rfl rfl
theorem dksL_law_62 : cL_law.data.toList.drop 1600 = dktL_law_62 := dk_seg dksL_law_61 22 rfl rfl
theorem dksL_law_63 : cL_law.data.toList.drop 1623 = dktL_law_63 := dk_seg dksL_law_62 23 rfl rfl
theorem dksL_law_64 : cL_law.data.toList.drop 1646 = dktL_law_64 := dk_seg dksL_law_63 23 rfl rfl
theorem dksL_law_65 : cL_law.data.toList.drop 1670 = dktL_law_65 := dk_seg dksL_law_64 24 rfl rfl
theorem dksL_law_66 : cL_law.data.toList.drop 1693 = dktL_law_66 := dk_seg dksL_law_65 23 rfl rfl
theorem dksL_law_67 : cL_law.data.toList.drop 1717 = dktL_law_67 := dk_seg dksL_law_66 24 rfl rfl
theorem dksL_law_68 : cL_law.data.toList.drop 1740 = dktL_law_68 := dk_seg dksL_law_67 23 rfl rfl
theorem dksL_law_69 : cL_law.data.toList.drop 1764 = dktL_law_69 := dk_seg dksL_law_68 24 rfl rfl
theorem dksL_law_70 : cL_law.data.toList.drop 1787 = dktL_law_70 := dk_seg dksL_law_69 23 rfl rfl
theorem dksL_law_71 : cL_law.data.toList.drop 1811 = dktL_law_71 := dk_seg dksL_law_70 24 rfl rfl
theorem dksL_law_72 : cL_law.data.toList.drop 1834 = dktL_law_72 := dk_seg dksL_law_71 23 rfl rfl
theorem dksL_law_73 : cL_law.data.toList.drop 1858 = dktL_law_73 := dk_seg dksL_law_72 24 rfl rfl
theorem dksL_law_74 : cL_law.data.toList.drop 1880 = dktL_law_74 := dk_seg dksL_law_73 22 rfl rfl
theorem dksL_law_75 : cL_law.data.toList.drop 1902 = dktL_law_75 := dk_seg dksL_law_74 22 rfl rfl
theorem dksL_law_76 : cL_law.data.toList.drop 1926 = dktL_law_76 := dk_seg dksL_law_75 24 rfl rfl
theorem dksL_law_77 : cL_law.data.toList.drop 1950 = dktL_law_77 := dk_seg dksL_law_76 24 rfl rfl
theorem dL_law_0 : decode cL_law 0 = .ok (.new 8, 3) := dk_187 0 8 (dk_at dksL_law_0 0 rfl rfl)
theorem dL_law_3 : decode cL_law 3 = .ok (.dup, 1) := dk_89 (dk_at dksL_law_0 3 rfl rfl)
theorem dL_law_4 : decode cL_law 4 = .ok (.invokespecial 94, 3) := dk_183 0 94 (dk_at dksL_law_0 4 rfl rfl)
theorem dL_law_7 : decode cL_law 7 = .ok (.astore_n 1, 1) := dk_76 (dk_at dksL_law_0 7 rfl rfl)
theorem dL_law_8 : decode cL_law 8 = .ok (.new 95, 3) := dk_187 0 95 (dk_at dksL_law_0 8 rfl rfl)
theorem dL_law_11 : decode cL_law 11 = .ok (.dup, 1) := dk_89 (dk_at dksL_law_0 11 rfl rfl)
theorem dL_law_12 : decode cL_law 12 = .ok (.invokespecial 97, 3) := dk_183 0 97 (dk_at dksL_law_0 12 rfl rfl)
theorem dL_law_15 : decode cL_law 15 = .ok (.astore_n 2, 1) := dk_77 (dk_at dksL_law_0 15 rfl rfl)
theorem dL_law_16 : decode cL_law 16 = .ok (.iconst 1, 1) := dk_4 (dk_at dksL_law_0 16 rfl rfl)
theorem dL_law_17 : decode cL_law 17 = .ok (.newarray .long, 2) := dk_188_11 (dk_at dksL_law_0 17 rfl rfl)
theorem dL_law_19 : decode cL_law 19 = .ok (.astore_n 3, 1) := dk_78 (dk_at dksL_law_0 19 rfl rfl)
theorem dL_law_20 : decode cL_law 20 = .ok (.iconst 0, 1) := dk_3 (dk_at dksL_law_0 20 rfl rfl)
theorem dL_law_21 : decode cL_law 21 = .ok (.istore 4, 2) := dk_54 4 (dk_at dksL_law_0 21 rfl rfl)
theorem dL_law_23 : decode cL_law 23 = .ok (.iload 4, 2) := dk_21 4 (dk_at dksL_law_1 0 rfl rfl)
theorem dL_law_25 : decode cL_law 25 = .ok (.aload_n 0, 1) := dk_42 (dk_at dksL_law_1 2 rfl rfl)
theorem dL_law_26 : decode cL_law 26 = .ok (.arraylength, 1) := dk_190 (dk_at dksL_law_1 3 rfl rfl)
theorem dL_law_27 : decode cL_law 27 = .ok (.bipush 6, 2) := dk_16 6 (dk_at dksL_law_1 4 rfl rfl)
theorem dL_law_29 : decode cL_law 29 = .ok (.isub, 1) := dk_100 (dk_at dksL_law_1 6 rfl rfl)
theorem dL_law_30 : decode cL_law 30 = .ok (.if_icmp .gt 1932, 3) := dk_163 7 140 (dk_at dksL_law_1 7 rfl rfl)
theorem dL_law_33 : decode cL_law 33 = .ok (.aload_n 0, 1) := dk_42 (dk_at dksL_law_1 10 rfl rfl)
theorem dL_law_34 : decode cL_law 34 = .ok (.iload 4, 2) := dk_21 4 (dk_at dksL_law_1 11 rfl rfl)
theorem dL_law_36 : decode cL_law 36 = .ok (.iaload, 1) := dk_46 (dk_at dksL_law_1 13 rfl rfl)
theorem dL_law_37 : decode cL_law 37 = .ok (.bipush 63, 2) := dk_16 63 (dk_at dksL_law_1 14 rfl rfl)
theorem dL_law_39 : decode cL_law 39 = .ok (.iand, 1) := dk_126 (dk_at dksL_law_1 16 rfl rfl)
theorem dL_law_40 : decode cL_law 40 = .ok (.tableswitch 1916 0 39 #[176, 280, 336, 349, 362, 375, 388, 401, 414, 427, 440, 453, 466, 479, 492, 548, 611, 667, 730, 793, 849, 912, 975, 1038, 1094, 1150, 1206, 1262, 1318, 1393, 1456, 1512, 1568, 1624, 1680, 1736, 1792, 1848, 1861, 1902], 176) := by decide +kernel
theorem dL_law_216 : decode cL_law 216 = .ok (.aload_n 1, 1) := dk_43 (dk_at dksL_law_3 0 rfl rfl)
theorem dL_law_217 : decode cL_law 217 = .ok (.aload_n 0, 1) := dk_42 (dk_at dksL_law_3 1 rfl rfl)
theorem dL_law_218 : decode cL_law 218 = .ok (.iload 4, 2) := dk_21 4 (dk_at dksL_law_3 2 rfl rfl)
theorem dL_law_220 : decode cL_law 220 = .ok (.iconst 1, 1) := dk_4 (dk_at dksL_law_3 4 rfl rfl)
theorem dL_law_221 : decode cL_law 221 = .ok (.iadd, 1) := dk_96 (dk_at dksL_law_3 5 rfl rfl)
theorem dL_law_222 : decode cL_law 222 = .ok (.iaload, 1) := dk_46 (dk_at dksL_law_3 6 rfl rfl)
theorem dL_law_223 : decode cL_law 223 = .ok (.aload_n 0, 1) := dk_42 (dk_at dksL_law_3 7 rfl rfl)
theorem dL_law_224 : decode cL_law 224 = .ok (.iload 4, 2) := dk_21 4 (dk_at dksL_law_3 8 rfl rfl)
theorem dL_law_226 : decode cL_law 226 = .ok (.iconst 2, 1) := dk_5 (dk_at dksL_law_3 10 rfl rfl)
theorem dL_law_227 : decode cL_law 227 = .ok (.iadd, 1) := dk_96 (dk_at dksL_law_3 11 rfl rfl)
theorem dL_law_228 : decode cL_law 228 = .ok (.iaload, 1) := dk_46 (dk_at dksL_law_3 12 rfl rfl)
theorem dL_law_229 : decode cL_law 229 = .ok (.aload_n 0, 1) := dk_42 (dk_at dksL_law_3 13 rfl rfl)
theorem dL_law_230 : decode cL_law 230 = .ok (.iload 4, 2) := dk_21 4 (dk_at dksL_law_3 14 rfl rfl)
theorem dL_law_232 : decode cL_law 232 = .ok (.iconst 3, 1) := dk_6 (dk_at dksL_law_3 16 rfl rfl)
theorem dL_law_233 : decode cL_law 233 = .ok (.iadd, 1) := dk_96 (dk_at dksL_law_3 17 rfl rfl)
theorem dL_law_234 : decode cL_law 234 = .ok (.iaload, 1) := dk_46 (dk_at dksL_law_3 18 rfl rfl)
theorem dL_law_235 : decode cL_law 235 = .ok (.aload_n 0, 1) := dk_42 (dk_at dksL_law_3 19 rfl rfl)
theorem dL_law_236 : decode cL_law 236 = .ok (.iload 4, 2) := dk_21 4 (dk_at dksL_law_3 20 rfl rfl)
theorem dL_law_238 : decode cL_law 238 = .ok (.iconst 4, 1) := dk_7 (dk_at dksL_law_3 22 rfl rfl)
theorem dL_law_239 : decode cL_law 239 = .ok (.iadd, 1) := dk_96 (dk_at dksL_law_3 23 rfl rfl)
theorem dL_law_240 : decode cL_law 240 = .ok (.iaload, 1) := dk_46 (dk_at dksL_law_4 0 rfl rfl)
theorem dL_law_241 : decode cL_law 241 = .ok (.aload_n 0, 1) := dk_42 (dk_at dksL_law_4 1 rfl rfl)
theorem dL_law_242 : decode cL_law 242 = .ok (.iload 4, 2) := dk_21 4 (dk_at dksL_law_4 2 rfl rfl)
theorem dL_law_244 : decode cL_law 244 = .ok (.iconst 5, 1) := dk_8 (dk_at dksL_law_4 4 rfl rfl)
theorem dL_law_245 : decode cL_law 245 = .ok (.iadd, 1) := dk_96 (dk_at dksL_law_4 5 rfl rfl)
theorem dL_law_246 : decode cL_law 246 = .ok (.iaload, 1) := dk_46 (dk_at dksL_law_4 6 rfl rfl)
theorem dL_law_247 : decode cL_law 247 = .ok (.aload_n 3, 1) := dk_45 (dk_at dksL_law_4 7 rfl rfl)
theorem dL_law_248 : decode cL_law 248 = .ok (.invokestatic 98, 3) := dk_184 0 98 (dk_at dksL_law_4 8 rfl rfl)
theorem dL_law_251 : decode cL_law 251 = .ok (.istore 5, 2) := dk_54 5 (dk_at dksL_law_4 11 rfl rfl)
theorem dL_law_253 : decode cL_law 253 = .ok (.aload_n 2, 1) := dk_44 (dk_at dksL_law_4 13 rfl rfl)
theorem dL_law_254 : decode cL_law 254 = .ok (.aload_n 0, 1) := dk_42 (dk_at dksL_law_4 14 rfl rfl)
theorem dL_law_255 : decode cL_law 255 = .ok (.iload 4, 2) := dk_21 4 (dk_at dksL_law_4 15 rfl rfl)
theorem dL_law_257 : decode cL_law 257 = .ok (.iconst 1, 1) := dk_4 (dk_at dksL_law_4 17 rfl rfl)
theorem dL_law_258 : decode cL_law 258 = .ok (.iadd, 1) := dk_96 (dk_at dksL_law_4 18 rfl rfl)
theorem dL_law_259 : decode cL_law 259 = .ok (.iaload, 1) := dk_46 (dk_at dksL_law_4 19 rfl rfl)
theorem dL_law_260 : decode cL_law 260 = .ok (.aload_n 0, 1) := dk_42 (dk_at dksL_law_4 20 rfl rfl)
theorem dL_law_261 : decode cL_law 261 = .ok (.iload 4, 2) := dk_21 4 (dk_at dksL_law_4 21 rfl rfl)
theorem dL_law_263 : decode cL_law 263 = .ok (.iconst 2, 1) := dk_5 (dk_at dksL_law_4 23 rfl rfl)
theorem dL_law_264 : decode cL_law 264 = .ok (.iadd, 1) := dk_96 (dk_at dksL_law_5 0 rfl rfl)
theorem dL_law_265 : decode cL_law 265 = .ok (.iaload, 1) := dk_46 (dk_at dksL_law_5 1 rfl rfl)
theorem dL_law_266 : decode cL_law 266 = .ok (.aload_n 0, 1) := dk_42 (dk_at dksL_law_5 2 rfl rfl)
theorem dL_law_267 : decode cL_law 267 = .ok (.iload 4, 2) := dk_21 4 (dk_at dksL_law_5 3 rfl rfl)
theorem dL_law_269 : decode cL_law 269 = .ok (.iconst 3, 1) := dk_6 (dk_at dksL_law_5 5 rfl rfl)
theorem dL_law_270 : decode cL_law 270 = .ok (.iadd, 1) := dk_96 (dk_at dksL_law_5 6 rfl rfl)
theorem dL_law_271 : decode cL_law 271 = .ok (.iaload, 1) := dk_46 (dk_at dksL_law_5 7 rfl rfl)
theorem dL_law_272 : decode cL_law 272 = .ok (.aload_n 0, 1) := dk_42 (dk_at dksL_law_5 8 rfl rfl)
theorem dL_law_273 : decode cL_law 273 = .ok (.iload 4, 2) := dk_21 4 (dk_at dksL_law_5 9 rfl rfl)
theorem dL_law_275 : decode cL_law 275 = .ok (.iconst 4, 1) := dk_7 (dk_at dksL_law_5 11 rfl rfl)
theorem dL_law_276 : decode cL_law 276 = .ok (.iadd, 1) := dk_96 (dk_at dksL_law_5 12 rfl rfl)
theorem dL_law_277 : decode cL_law 277 = .ok (.iaload, 1) := dk_46 (dk_at dksL_law_5 13 rfl rfl)
theorem dL_law_278 : decode cL_law 278 = .ok (.aload_n 0, 1) := dk_42 (dk_at dksL_law_5 14 rfl rfl)
theorem dL_law_279 : decode cL_law 279 = .ok (.iload 4, 2) := dk_21 4 (dk_at dksL_law_5 15 rfl rfl)
theorem dL_law_281 : decode cL_law 281 = .ok (.iconst 5, 1) := dk_8 (dk_at dksL_law_5 17 rfl rfl)
theorem dL_law_282 : decode cL_law 282 = .ok (.iadd, 1) := dk_96 (dk_at dksL_law_5 18 rfl rfl)
theorem dL_law_283 : decode cL_law 283 = .ok (.iaload, 1) := dk_46 (dk_at dksL_law_5 19 rfl rfl)
theorem dL_law_284 : decode cL_law 284 = .ok (.invokevirtual 103, 3) := dk_182 0 103 (dk_at dksL_law_5 20 rfl rfl)
theorem dL_law_287 : decode cL_law 287 = .ok (.istore 6, 2) := dk_54 6 (dk_at dksL_law_6 0 rfl rfl)
theorem dL_law_289 : decode cL_law 289 = .ok (.aload_n 2, 1) := dk_44 (dk_at dksL_law_6 2 rfl rfl)
theorem dL_law_290 : decode cL_law 290 = .ok (.invokevirtual 104, 3) := dk_182 0 104 (dk_at dksL_law_6 3 rfl rfl)
theorem dL_law_293 : decode cL_law 293 = .ok (.iload 5, 2) := dk_21 5 (dk_at dksL_law_6 6 rfl rfl)
theorem dL_law_295 : decode cL_law 295 = .ok (.if_icmp .eq 5, 3) := dk_159 0 5 (dk_at dksL_law_6 8 rfl rfl)
theorem dL_law_298 : decode cL_law 298 = .ok (.iconst 0, 1) := dk_3 (dk_at dksL_law_6 11 rfl rfl)
theorem dL_law_299 : decode cL_law 299 = .ok (.ireturn, 1) := dk_172 (dk_at dksL_law_6 12 rfl rfl)
theorem dL_law_300 : decode cL_law 300 = .ok (.iload 5, 2) := dk_21 5 (dk_at dksL_law_6 13 rfl rfl)
theorem dL_law_302 : decode cL_law 302 = .ok (.ifCond .ne 15, 3) := dk_154 0 15 (dk_at dksL_law_6 15 rfl rfl)
theorem dL_law_305 : decode cL_law 305 = .ok (.aload_n 3, 1) := dk_45 (dk_at dksL_law_6 18 rfl rfl)
theorem dL_law_306 : decode cL_law 306 = .ok (.iconst 0, 1) := dk_3 (dk_at dksL_law_6 19 rfl rfl)
theorem dL_law_307 : decode cL_law 307 = .ok (.laload, 1) := dk_47 (dk_at dksL_law_6 20 rfl rfl)
theorem dL_law_308 : decode cL_law 308 = .ok (.iload 6, 2) := dk_21 6 (dk_at dksL_law_6 21 rfl rfl)
theorem dL_law_310 : decode cL_law 310 = .ok (.i2l, 1) := dk_133 (dk_at dksL_law_6 23 rfl rfl)
theorem dL_law_311 : decode cL_law 311 = .ok (.lcmp, 1) := dk_148 (dk_at dksL_law_7 0 rfl rfl)
theorem dL_law_312 : decode cL_law 312 = .ok (.ifCond .eq 5, 3) := dk_153 0 5 (dk_at dksL_law_7 1 rfl rfl)
theorem dL_law_315 : decode cL_law 315 = .ok (.iconst 0, 1) := dk_3 (dk_at dksL_law_7 4 rfl rfl)
theorem dL_law_316 : decode cL_law 316 = .ok (.ireturn, 1) := dk_172 (dk_at dksL_law_7 5 rfl rfl)
theorem dL_law_317 : decode cL_law 317 = .ok (.goto 1639, 3) := dk_167 6 103 (dk_at dksL_law_7 6 rfl rfl)
theorem dL_law_320 : decode cL_law 320 = .ok (.aload_n 1, 1) := dk_43 (dk_at dksL_law_7 9 rfl rfl)
theorem dL_law_321 : decode cL_law 321 = .ok (.aload_n 0, 1) := dk_42 (dk_at dksL_law_7 10 rfl rfl)
theorem dL_law_322 : decode cL_law 322 = .ok (.iload 4, 2) := dk_21 4 (dk_at dksL_law_7 11 rfl rfl)
theorem dL_law_324 : decode cL_law 324 = .ok (.iconst 1, 1) := dk_4 (dk_at dksL_law_7 13 rfl rfl)
theorem dL_law_325 : decode cL_law 325 = .ok (.iadd, 1) := dk_96 (dk_at dksL_law_7 14 rfl rfl)
theorem dL_law_326 : decode cL_law 326 = .ok (.iaload, 1) := dk_46 (dk_at dksL_law_7 15 rfl rfl)
theorem dL_law_327 : decode cL_law 327 = .ok (.aload_n 3, 1) := dk_45 (dk_at dksL_law_7 16 rfl rfl)
theorem dL_law_328 : decode cL_law 328 = .ok (.invokestatic 108, 3) := dk_184 0 108 (dk_at dksL_law_7 17 rfl rfl)
theorem dL_law_331 : decode cL_law 331 = .ok (.istore 5, 2) := dk_54 5 (dk_at dksL_law_7 20 rfl rfl)
theorem dL_law_333 : decode cL_law 333 = .ok (.aload_n 2, 1) := dk_44 (dk_at dksL_law_7 22 rfl rfl)
theorem dL_law_334 : decode cL_law 334 = .ok (.aload_n 0, 1) := dk_42 (dk_at dksL_law_7 23 rfl rfl)
theorem dL_law_335 : decode cL_law 335 = .ok (.iload 4, 2) := dk_21 4 (dk_at dksL_law_8 0 rfl rfl)
theorem dL_law_337 : decode cL_law 337 = .ok (.iconst 1, 1) := dk_4 (dk_at dksL_law_8 2 rfl rfl)
theorem dL_law_338 : decode cL_law 338 = .ok (.iadd, 1) := dk_96 (dk_at dksL_law_8 3 rfl rfl)
theorem dL_law_339 : decode cL_law 339 = .ok (.iaload, 1) := dk_46 (dk_at dksL_law_8 4 rfl rfl)
theorem dL_law_340 : decode cL_law 340 = .ok (.invokevirtual 111, 3) := dk_182 0 111 (dk_at dksL_law_8 5 rfl rfl)
theorem dL_law_343 : decode cL_law 343 = .ok (.istore 6, 2) := dk_54 6 (dk_at dksL_law_8 8 rfl rfl)
theorem dL_law_345 : decode cL_law 345 = .ok (.aload_n 2, 1) := dk_44 (dk_at dksL_law_8 10 rfl rfl)
theorem dL_law_346 : decode cL_law 346 = .ok (.invokevirtual 104, 3) := dk_182 0 104 (dk_at dksL_law_8 11 rfl rfl)
theorem dL_law_349 : decode cL_law 349 = .ok (.iload 5, 2) := dk_21 5 (dk_at dksL_law_8 14 rfl rfl)
theorem dL_law_351 : decode cL_law 351 = .ok (.if_icmp .eq 5, 3) := dk_159 0 5 (dk_at dksL_law_8 16 rfl rfl)
theorem dL_law_354 : decode cL_law 354 = .ok (.iconst 0, 1) := dk_3 (dk_at dksL_law_8 19 rfl rfl)
theorem dL_law_355 : decode cL_law 355 = .ok (.ireturn, 1) := dk_172 (dk_at dksL_law_8 20 rfl rfl)
theorem dL_law_356 : decode cL_law 356 = .ok (.iload 5, 2) := dk_21 5 (dk_at dksL_law_8 21 rfl rfl)
theorem dL_law_358 : decode cL_law 358 = .ok (.ifCond .ne 15, 3) := dk_154 0 15 (dk_at dksL_law_9 0 rfl rfl)
theorem dL_law_361 : decode cL_law 361 = .ok (.aload_n 3, 1) := dk_45 (dk_at dksL_law_9 3 rfl rfl)
theorem dL_law_362 : decode cL_law 362 = .ok (.iconst 0, 1) := dk_3 (dk_at dksL_law_9 4 rfl rfl)
theorem dL_law_363 : decode cL_law 363 = .ok (.laload, 1) := dk_47 (dk_at dksL_law_9 5 rfl rfl)
theorem dL_law_364 : decode cL_law 364 = .ok (.iload 6, 2) := dk_21 6 (dk_at dksL_law_9 6 rfl rfl)
theorem dL_law_366 : decode cL_law 366 = .ok (.i2l, 1) := dk_133 (dk_at dksL_law_9 8 rfl rfl)
theorem dL_law_367 : decode cL_law 367 = .ok (.lcmp, 1) := dk_148 (dk_at dksL_law_9 9 rfl rfl)
theorem dL_law_368 : decode cL_law 368 = .ok (.ifCond .eq 5, 3) := dk_153 0 5 (dk_at dksL_law_9 10 rfl rfl)
theorem dL_law_371 : decode cL_law 371 = .ok (.iconst 0, 1) := dk_3 (dk_at dksL_law_9 13 rfl rfl)
theorem dL_law_372 : decode cL_law 372 = .ok (.ireturn, 1) := dk_172 (dk_at dksL_law_9 14 rfl rfl)
theorem dL_law_373 : decode cL_law 373 = .ok (.goto 1583, 3) := dk_167 6 47 (dk_at dksL_law_9 15 rfl rfl)
theorem dL_law_376 : decode cL_law 376 = .ok (.aload_n 1, 1) := dk_43 (dk_at dksL_law_9 18 rfl rfl)
theorem dL_law_377 : decode cL_law 377 = .ok (.invokevirtual 112, 3) := dk_182 0 112 (dk_at dksL_law_9 19 rfl rfl)
theorem dL_law_380 : decode cL_law 380 = .ok (.aload_n 2, 1) := dk_44 (dk_at dksL_law_9 22 rfl rfl)
theorem dL_law_381 : decode cL_law 381 = .ok (.invokevirtual 115, 3) := dk_182 0 115 (dk_at dksL_law_10 0 rfl rfl)
theorem dL_law_384 : decode cL_law 384 = .ok (.if_icmp .eq 1572, 3) := dk_159 6 36 (dk_at dksL_law_10 3 rfl rfl)
theorem dL_law_387 : decode cL_law 387 = .ok (.iconst 0, 1) := dk_3 (dk_at dksL_law_10 6 rfl rfl)
theorem dL_law_388 : decode cL_law 388 = .ok (.ireturn, 1) := dk_172 (dk_at dksL_law_10 7 rfl rfl)
theorem dL_law_389 : decode cL_law 389 = .ok (.aload_n 1, 1) := dk_43 (dk_at dksL_law_10 8 rfl rfl)
theorem dL_law_390 : decode cL_law 390 = .ok (.invokevirtual 116, 3) := dk_182 0 116 (dk_at dksL_law_10 9 rfl rfl)
theorem dL_law_393 : decode cL_law 393 = .ok (.aload_n 2, 1) := dk_44 (dk_at dksL_law_10 12 rfl rfl)
theorem dL_law_394 : decode cL_law 394 = .ok (.invokevirtual 119, 3) := dk_182 0 119 (dk_at dksL_law_10 13 rfl rfl)
theorem dL_law_397 : decode cL_law 397 = .ok (.if_icmp .eq 1559, 3) := dk_159 6 23 (dk_at dksL_law_10 16 rfl rfl)
theorem dL_law_400 : decode cL_law 400 = .ok (.iconst 0, 1) := dk_3 (dk_at dksL_law_10 19 rfl rfl)
theorem dL_law_401 : decode cL_law 401 = .ok (.ireturn, 1) := dk_172 (dk_at dksL_law_10 20 rfl rfl)
theorem dL_law_402 : decode cL_law 402 = .ok (.aload_n 1, 1) := dk_43 (dk_at dksL_law_10 21 rfl rfl)
theorem dL_law_403 : decode cL_law 403 = .ok (.invokevirtual 120, 3) := dk_182 0 120 (dk_at dksL_law_11 0 rfl rfl)
theorem dL_law_406 : decode cL_law 406 = .ok (.aload_n 2, 1) := dk_44 (dk_at dksL_law_11 3 rfl rfl)
theorem dL_law_407 : decode cL_law 407 = .ok (.invokevirtual 123, 3) := dk_182 0 123 (dk_at dksL_law_11 4 rfl rfl)
theorem dL_law_410 : decode cL_law 410 = .ok (.if_icmp .eq 1546, 3) := dk_159 6 10 (dk_at dksL_law_11 7 rfl rfl)
theorem dL_law_413 : decode cL_law 413 = .ok (.iconst 0, 1) := dk_3 (dk_at dksL_law_11 10 rfl rfl)
theorem dL_law_414 : decode cL_law 414 = .ok (.ireturn, 1) := dk_172 (dk_at dksL_law_11 11 rfl rfl)
theorem dL_law_415 : decode cL_law 415 = .ok (.aload_n 1, 1) := dk_43 (dk_at dksL_law_11 12 rfl rfl)
theorem dL_law_416 : decode cL_law 416 = .ok (.invokevirtual 124, 3) := dk_182 0 124 (dk_at dksL_law_11 13 rfl rfl)
theorem dL_law_419 : decode cL_law 419 = .ok (.aload_n 2, 1) := dk_44 (dk_at dksL_law_11 16 rfl rfl)
theorem dL_law_420 : decode cL_law 420 = .ok (.invokevirtual 127, 3) := dk_182 0 127 (dk_at dksL_law_11 17 rfl rfl)
theorem dL_law_423 : decode cL_law 423 = .ok (.if_icmp .eq 1533, 3) := dk_159 5 253 (dk_at dksL_law_11 20 rfl rfl)
theorem dL_law_426 : decode cL_law 426 = .ok (.iconst 0, 1) := dk_3 (dk_at dksL_law_11 23 rfl rfl)
theorem dL_law_427 : decode cL_law 427 = .ok (.ireturn, 1) := dk_172 (dk_at dksL_law_12 0 rfl rfl)
theorem dL_law_428 : decode cL_law 428 = .ok (.aload_n 1, 1) := dk_43 (dk_at dksL_law_12 1 rfl rfl)
theorem dL_law_429 : decode cL_law 429 = .ok (.invokevirtual 128, 3) := dk_182 0 128 (dk_at dksL_law_12 2 rfl rfl)
theorem dL_law_432 : decode cL_law 432 = .ok (.aload_n 2, 1) := dk_44 (dk_at dksL_law_12 5 rfl rfl)
theorem dL_law_433 : decode cL_law 433 = .ok (.invokevirtual 131, 3) := dk_182 0 131 (dk_at dksL_law_12 6 rfl rfl)
theorem dL_law_436 : decode cL_law 436 = .ok (.if_icmp .eq 1520, 3) := dk_159 5 240 (dk_at dksL_law_12 9 rfl rfl)
theorem dL_law_439 : decode cL_law 439 = .ok (.iconst 0, 1) := dk_3 (dk_at dksL_law_12 12 rfl rfl)
theorem dL_law_440 : decode cL_law 440 = .ok (.ireturn, 1) := dk_172 (dk_at dksL_law_12 13 rfl rfl)
theorem dL_law_441 : decode cL_law 441 = .ok (.aload_n 1, 1) := dk_43 (dk_at dksL_law_12 14 rfl rfl)
theorem dL_law_442 : decode cL_law 442 = .ok (.invokevirtual 132, 3) := dk_182 0 132 (dk_at dksL_law_12 15 rfl rfl)
theorem dL_law_445 : decode cL_law 445 = .ok (.aload_n 2, 1) := dk_44 (dk_at dksL_law_12 18 rfl rfl)
theorem dL_law_446 : decode cL_law 446 = .ok (.invokevirtual 135, 3) := dk_182 0 135 (dk_at dksL_law_12 19 rfl rfl)
theorem dL_law_449 : decode cL_law 449 = .ok (.if_icmp .eq 1507, 3) := dk_159 5 227 (dk_at dksL_law_13 0 rfl rfl)
theorem dL_law_452 : decode cL_law 452 = .ok (.iconst 0, 1) := dk_3 (dk_at dksL_law_13 3 rfl rfl)
theorem dL_law_453 : decode cL_law 453 = .ok (.ireturn, 1) := dk_172 (dk_at dksL_law_13 4 rfl rfl)
theorem dL_law_454 : decode cL_law 454 = .ok (.aload_n 1, 1) := dk_43 (dk_at dksL_law_13 5 rfl rfl)
theorem dL_law_455 : decode cL_law 455 = .ok (.invokevirtual 136, 3) := dk_182 0 136 (dk_at dksL_law_13 6 rfl rfl)
theorem dL_law_458 : decode cL_law 458 = .ok (.aload_n 2, 1) := dk_44 (dk_at dksL_law_13 9 rfl rfl)
theorem dL_law_459 : decode cL_law 459 = .ok (.invokevirtual 139, 3) := dk_182 0 139 (dk_at dksL_law_13 10 rfl rfl)
theorem dL_law_462 : decode cL_law 462 = .ok (.if_icmp .eq 1494, 3) := dk_159 5 214 (dk_at dksL_law_13 13 rfl rfl)
theorem dL_law_465 : decode cL_law 465 = .ok (.iconst 0, 1) := dk_3 (dk_at dksL_law_13 16 rfl rfl)
theorem dL_law_466 : decode cL_law 466 = .ok (.ireturn, 1) := dk_172 (dk_at dksL_law_13 17 rfl rfl)
theorem dL_law_467 : decode cL_law 467 = .ok (.aload_n 1, 1) := dk_43 (dk_at dksL_law_13 18 rfl rfl)
theorem dL_law_468 : decode cL_law 468 = .ok (.invokevirtual 140, 3) := dk_182 0 140 (dk_at dksL_law_13 19 rfl rfl)
theorem dL_law_471 : decode cL_law 471 = .ok (.aload_n 2, 1) := dk_44 (dk_at dksL_law_13 22 rfl rfl)
theorem dL_law_472 : decode cL_law 472 = .ok (.invokevirtual 143, 3) := dk_182 0 143 (dk_at dksL_law_14 0 rfl rfl)
theorem dL_law_475 : decode cL_law 475 = .ok (.if_icmp .eq 1481, 3) := dk_159 5 201 (dk_at dksL_law_14 3 rfl rfl)
theorem dL_law_478 : decode cL_law 478 = .ok (.iconst 0, 1) := dk_3 (dk_at dksL_law_14 6 rfl rfl)
theorem dL_law_479 : decode cL_law 479 = .ok (.ireturn, 1) := dk_172 (dk_at dksL_law_14 7 rfl rfl)
theorem dL_law_480 : decode cL_law 480 = .ok (.aload_n 1, 1) := dk_43 (dk_at dksL_law_14 8 rfl rfl)
theorem dL_law_481 : decode cL_law 481 = .ok (.invokevirtual 144, 3) := dk_182 0 144 (dk_at dksL_law_14 9 rfl rfl)
theorem dL_law_484 : decode cL_law 484 = .ok (.aload_n 2, 1) := dk_44 (dk_at dksL_law_14 12 rfl rfl)
theorem dL_law_485 : decode cL_law 485 = .ok (.invokevirtual 147, 3) := dk_182 0 147 (dk_at dksL_law_14 13 rfl rfl)
theorem dL_law_488 : decode cL_law 488 = .ok (.if_icmp .eq 1468, 3) := dk_159 5 188 (dk_at dksL_law_14 16 rfl rfl)
theorem dL_law_491 : decode cL_law 491 = .ok (.iconst 0, 1) := dk_3 (dk_at dksL_law_14 19 rfl rfl)
theorem dL_law_492 : decode cL_law 492 = .ok (.ireturn, 1) := dk_172 (dk_at dksL_law_14 20 rfl rfl)
theorem dL_law_493 : decode cL_law 493 = .ok (.aload_n 1, 1) := dk_43 (dk_at dksL_law_14 21 rfl rfl)
theorem dL_law_494 : decode cL_law 494 = .ok (.invokevirtual 148, 3) := dk_182 0 148 (dk_at dksL_law_15 0 rfl rfl)
theorem dL_law_497 : decode cL_law 497 = .ok (.aload_n 2, 1) := dk_44 (dk_at dksL_law_15 3 rfl rfl)
theorem dL_law_498 : decode cL_law 498 = .ok (.invokevirtual 151, 3) := dk_182 0 151 (dk_at dksL_law_15 4 rfl rfl)
theorem dL_law_501 : decode cL_law 501 = .ok (.if_icmp .eq 1455, 3) := dk_159 5 175 (dk_at dksL_law_15 7 rfl rfl)
theorem dL_law_504 : decode cL_law 504 = .ok (.iconst 0, 1) := dk_3 (dk_at dksL_law_15 10 rfl rfl)
theorem dL_law_505 : decode cL_law 505 = .ok (.ireturn, 1) := dk_172 (dk_at dksL_law_15 11 rfl rfl)
theorem dL_law_506 : decode cL_law 506 = .ok (.aload_n 1, 1) := dk_43 (dk_at dksL_law_15 12 rfl rfl)
theorem dL_law_507 : decode cL_law 507 = .ok (.invokevirtual 152, 3) := dk_182 0 152 (dk_at dksL_law_15 13 rfl rfl)
theorem dL_law_510 : decode cL_law 510 = .ok (.aload_n 2, 1) := dk_44 (dk_at dksL_law_15 16 rfl rfl)
theorem dL_law_511 : decode cL_law 511 = .ok (.invokevirtual 155, 3) := dk_182 0 155 (dk_at dksL_law_15 17 rfl rfl)
theorem dL_law_514 : decode cL_law 514 = .ok (.if_icmp .eq 1442, 3) := dk_159 5 162 (dk_at dksL_law_15 20 rfl rfl)
theorem dL_law_517 : decode cL_law 517 = .ok (.iconst 0, 1) := dk_3 (dk_at dksL_law_15 23 rfl rfl)
theorem dL_law_518 : decode cL_law 518 = .ok (.ireturn, 1) := dk_172 (dk_at dksL_law_16 0 rfl rfl)
theorem dL_law_519 : decode cL_law 519 = .ok (.aload_n 1, 1) := dk_43 (dk_at dksL_law_16 1 rfl rfl)
theorem dL_law_520 : decode cL_law 520 = .ok (.invokevirtual 156, 3) := dk_182 0 156 (dk_at dksL_law_16 2 rfl rfl)
theorem dL_law_523 : decode cL_law 523 = .ok (.aload_n 2, 1) := dk_44 (dk_at dksL_law_16 5 rfl rfl)
theorem dL_law_524 : decode cL_law 524 = .ok (.invokevirtual 159, 3) := dk_182 0 159 (dk_at dksL_law_16 6 rfl rfl)
theorem dL_law_527 : decode cL_law 527 = .ok (.if_icmp .eq 1429, 3) := dk_159 5 149 (dk_at dksL_law_16 9 rfl rfl)
theorem dL_law_530 : decode cL_law 530 = .ok (.iconst 0, 1) := dk_3 (dk_at dksL_law_16 12 rfl rfl)
theorem dL_law_531 : decode cL_law 531 = .ok (.ireturn, 1) := dk_172 (dk_at dksL_law_16 13 rfl rfl)
theorem dL_law_532 : decode cL_law 532 = .ok (.aload_n 1, 1) := dk_43 (dk_at dksL_law_16 14 rfl rfl)
theorem dL_law_533 : decode cL_law 533 = .ok (.aload_n 0, 1) := dk_42 (dk_at dksL_law_16 15 rfl rfl)
theorem dL_law_534 : decode cL_law 534 = .ok (.iload 4, 2) := dk_21 4 (dk_at dksL_law_16 16 rfl rfl)
theorem dL_law_536 : decode cL_law 536 = .ok (.iconst 1, 1) := dk_4 (dk_at dksL_law_16 18 rfl rfl)
theorem dL_law_537 : decode cL_law 537 = .ok (.iadd, 1) := dk_96 (dk_at dksL_law_16 19 rfl rfl)
theorem dL_law_538 : decode cL_law 538 = .ok (.iaload, 1) := dk_46 (dk_at dksL_law_16 20 rfl rfl)
theorem dL_law_539 : decode cL_law 539 = .ok (.aload_n 3, 1) := dk_45 (dk_at dksL_law_16 21 rfl rfl)
theorem dL_law_540 : decode cL_law 540 = .ok (.invokestatic 160, 3) := dk_184 0 160 (dk_at dksL_law_17 0 rfl rfl)
theorem dL_law_543 : decode cL_law 543 = .ok (.istore 5, 2) := dk_54 5 (dk_at dksL_law_17 3 rfl rfl)
theorem dL_law_545 : decode cL_law 545 = .ok (.aload_n 2, 1) := dk_44 (dk_at dksL_law_17 5 rfl rfl)
theorem dL_law_546 : decode cL_law 546 = .ok (.aload_n 0, 1) := dk_42 (dk_at dksL_law_17 6 rfl rfl)
theorem dL_law_547 : decode cL_law 547 = .ok (.iload 4, 2) := dk_21 4 (dk_at dksL_law_17 7 rfl rfl)
theorem dL_law_549 : decode cL_law 549 = .ok (.iconst 1, 1) := dk_4 (dk_at dksL_law_17 9 rfl rfl)
theorem dL_law_550 : decode cL_law 550 = .ok (.iadd, 1) := dk_96 (dk_at dksL_law_17 10 rfl rfl)
theorem dL_law_551 : decode cL_law 551 = .ok (.iaload, 1) := dk_46 (dk_at dksL_law_17 11 rfl rfl)
theorem dL_law_552 : decode cL_law 552 = .ok (.invokevirtual 162, 3) := dk_182 0 162 (dk_at dksL_law_17 12 rfl rfl)
theorem dL_law_555 : decode cL_law 555 = .ok (.istore 6, 2) := dk_54 6 (dk_at dksL_law_17 15 rfl rfl)
theorem dL_law_557 : decode cL_law 557 = .ok (.aload_n 2, 1) := dk_44 (dk_at dksL_law_17 17 rfl rfl)
theorem dL_law_558 : decode cL_law 558 = .ok (.invokevirtual 104, 3) := dk_182 0 104 (dk_at dksL_law_17 18 rfl rfl)
theorem dL_law_561 : decode cL_law 561 = .ok (.iload 5, 2) := dk_21 5 (dk_at dksL_law_17 21 rfl rfl)
theorem dL_law_563 : decode cL_law 563 = .ok (.if_icmp .eq 5, 3) := dk_159 0 5 (dk_at dksL_law_18 0 rfl rfl)
theorem dL_law_566 : decode cL_law 566 = .ok (.iconst 0, 1) := dk_3 (dk_at dksL_law_18 3 rfl rfl)
theorem dL_law_567 : decode cL_law 567 = .ok (.ireturn, 1) := dk_172 (dk_at dksL_law_18 4 rfl rfl)
theorem dL_law_568 : decode cL_law 568 = .ok (.iload 5, 2) := dk_21 5 (dk_at dksL_law_18 5 rfl rfl)
theorem dL_law_570 : decode cL_law 570 = .ok (.ifCond .ne 15, 3) := dk_154 0 15 (dk_at dksL_law_18 7 rfl rfl)
theorem dL_law_573 : decode cL_law 573 = .ok (.aload_n 3, 1) := dk_45 (dk_at dksL_law_18 10 rfl rfl)
theorem dL_law_574 : decode cL_law 574 = .ok (.iconst 0, 1) := dk_3 (dk_at dksL_law_18 11 rfl rfl)
theorem dL_law_575 : decode cL_law 575 = .ok (.laload, 1) := dk_47 (dk_at dksL_law_18 12 rfl rfl)
theorem dL_law_576 : decode cL_law 576 = .ok (.iload 6, 2) := dk_21 6 (dk_at dksL_law_18 13 rfl rfl)
theorem dL_law_578 : decode cL_law 578 = .ok (.i2l, 1) := dk_133 (dk_at dksL_law_18 15 rfl rfl)
theorem dL_law_579 : decode cL_law 579 = .ok (.lcmp, 1) := dk_148 (dk_at dksL_law_18 16 rfl rfl)
theorem dL_law_580 : decode cL_law 580 = .ok (.ifCond .eq 5, 3) := dk_153 0 5 (dk_at dksL_law_18 17 rfl rfl)
theorem dL_law_583 : decode cL_law 583 = .ok (.iconst 0, 1) := dk_3 (dk_at dksL_law_18 20 rfl rfl)
theorem dL_law_584 : decode cL_law 584 = .ok (.ireturn, 1) := dk_172 (dk_at dksL_law_18 21 rfl rfl)
theorem dL_law_585 : decode cL_law 585 = .ok (.goto 1371, 3) := dk_167 5 91 (dk_at dksL_law_19 0 rfl rfl)
theorem dL_law_588 : decode cL_law 588 = .ok (.aload_n 1, 1) := dk_43 (dk_at dksL_law_19 3 rfl rfl)
theorem dL_law_589 : decode cL_law 589 = .ok (.aload_n 0, 1) := dk_42 (dk_at dksL_law_19 4 rfl rfl)
theorem dL_law_590 : decode cL_law 590 = .ok (.iload 4, 2) := dk_21 4 (dk_at dksL_law_19 5 rfl rfl)
theorem dL_law_592 : decode cL_law 592 = .ok (.iconst 1, 1) := dk_4 (dk_at dksL_law_19 7 rfl rfl)
theorem dL_law_593 : decode cL_law 593 = .ok (.iadd, 1) := dk_96 (dk_at dksL_law_19 8 rfl rfl)
theorem dL_law_594 : decode cL_law 594 = .ok (.iaload, 1) := dk_46 (dk_at dksL_law_19 9 rfl rfl)
theorem dL_law_595 : decode cL_law 595 = .ok (.aload_n 3, 1) := dk_45 (dk_at dksL_law_19 10 rfl rfl)
theorem dL_law_596 : decode cL_law 596 = .ok (.invokestatic 163, 3) := dk_184 0 163 (dk_at dksL_law_19 11 rfl rfl)
theorem dL_law_599 : decode cL_law 599 = .ok (.istore 5, 2) := dk_54 5 (dk_at dksL_law_19 14 rfl rfl)
theorem dL_law_601 : decode cL_law 601 = .ok (.aload_n 2, 1) := dk_44 (dk_at dksL_law_19 16 rfl rfl)
theorem dL_law_602 : decode cL_law 602 = .ok (.aload_n 0, 1) := dk_42 (dk_at dksL_law_19 17 rfl rfl)
theorem dL_law_603 : decode cL_law 603 = .ok (.iload 4, 2) := dk_21 4 (dk_at dksL_law_19 18 rfl rfl)
theorem dL_law_605 : decode cL_law 605 = .ok (.iconst 1, 1) := dk_4 (dk_at dksL_law_19 20 rfl rfl)
theorem dL_law_606 : decode cL_law 606 = .ok (.iadd, 1) := dk_96 (dk_at dksL_law_19 21 rfl rfl)
theorem dL_law_607 : decode cL_law 607 = .ok (.iaload, 1) := dk_46 (dk_at dksL_law_19 22 rfl rfl)
theorem dL_law_608 : decode cL_law 608 = .ok (.invokevirtual 165, 3) := dk_182 0 165 (dk_at dksL_law_20 0 rfl rfl)
theorem dL_law_611 : decode cL_law 611 = .ok (.istore 6, 2) := dk_54 6 (dk_at dksL_law_20 3 rfl rfl)
theorem dL_law_613 : decode cL_law 613 = .ok (.aload_n 2, 1) := dk_44 (dk_at dksL_law_20 5 rfl rfl)
theorem dL_law_614 : decode cL_law 614 = .ok (.invokevirtual 104, 3) := dk_182 0 104 (dk_at dksL_law_20 6 rfl rfl)
theorem dL_law_617 : decode cL_law 617 = .ok (.iload 5, 2) := dk_21 5 (dk_at dksL_law_20 9 rfl rfl)
theorem dL_law_619 : decode cL_law 619 = .ok (.if_icmp .eq 5, 3) := dk_159 0 5 (dk_at dksL_law_20 11 rfl rfl)
theorem dL_law_622 : decode cL_law 622 = .ok (.iconst 0, 1) := dk_3 (dk_at dksL_law_20 14 rfl rfl)
theorem dL_law_623 : decode cL_law 623 = .ok (.ireturn, 1) := dk_172 (dk_at dksL_law_20 15 rfl rfl)
theorem dL_law_624 : decode cL_law 624 = .ok (.iload 5, 2) := dk_21 5 (dk_at dksL_law_20 16 rfl rfl)
theorem dL_law_626 : decode cL_law 626 = .ok (.ifCond .ne 22, 3) := dk_154 0 22 (dk_at dksL_law_20 18 rfl rfl)
theorem dL_law_629 : decode cL_law 629 = .ok (.aload_n 3, 1) := dk_45 (dk_at dksL_law_20 21 rfl rfl)
theorem dL_law_630 : decode cL_law 630 = .ok (.iconst 0, 1) := dk_3 (dk_at dksL_law_20 22 rfl rfl)
theorem dL_law_631 : decode cL_law 631 = .ok (.laload, 1) := dk_47 (dk_at dksL_law_20 23 rfl rfl)
theorem dL_law_632 : decode cL_law 632 = .ok (.iload 6, 2) := dk_21 6 (dk_at dksL_law_21 0 rfl rfl)
theorem dL_law_634 : decode cL_law 634 = .ok (.ifCond .eq 7, 3) := dk_153 0 7 (dk_at dksL_law_21 2 rfl rfl)
theorem dL_law_637 : decode cL_law 637 = .ok (.lconst 1, 1) := dk_10 (dk_at dksL_law_21 5 rfl rfl)
theorem dL_law_638 : decode cL_law 638 = .ok (.goto 4, 3) := dk_167 0 4 (dk_at dksL_law_21 6 rfl rfl)
theorem dL_law_641 : decode cL_law 641 = .ok (.lconst 0, 1) := dk_9 (dk_at dksL_law_21 9 rfl rfl)
theorem dL_law_642 : decode cL_law 642 = .ok (.lcmp, 1) := dk_148 (dk_at dksL_law_21 10 rfl rfl)
theorem dL_law_643 : decode cL_law 643 = .ok (.ifCond .eq 5, 3) := dk_153 0 5 (dk_at dksL_law_21 11 rfl rfl)
theorem dL_law_646 : decode cL_law 646 = .ok (.iconst 0, 1) := dk_3 (dk_at dksL_law_21 14 rfl rfl)
theorem dL_law_647 : decode cL_law 647 = .ok (.ireturn, 1) := dk_172 (dk_at dksL_law_21 15 rfl rfl)
theorem dL_law_648 : decode cL_law 648 = .ok (.goto 1308, 3) := dk_167 5 28 (dk_at dksL_law_21 16 rfl rfl)
theorem dL_law_651 : decode cL_law 651 = .ok (.aload_n 1, 1) := dk_43 (dk_at dksL_law_21 19 rfl rfl)
theorem dL_law_652 : decode cL_law 652 = .ok (.aload_n 0, 1) := dk_42 (dk_at dksL_law_21 20 rfl rfl)
theorem dL_law_653 : decode cL_law 653 = .ok (.iload 4, 2) := dk_21 4 (dk_at dksL_law_21 21 rfl rfl)
theorem dL_law_655 : decode cL_law 655 = .ok (.iconst 1, 1) := dk_4 (dk_at dksL_law_21 23 rfl rfl)
theorem dL_law_656 : decode cL_law 656 = .ok (.iadd, 1) := dk_96 (dk_at dksL_law_22 0 rfl rfl)
theorem dL_law_657 : decode cL_law 657 = .ok (.iaload, 1) := dk_46 (dk_at dksL_law_22 1 rfl rfl)
theorem dL_law_658 : decode cL_law 658 = .ok (.aload_n 3, 1) := dk_45 (dk_at dksL_law_22 2 rfl rfl)
theorem dL_law_659 : decode cL_law 659 = .ok (.invokestatic 166, 3) := dk_184 0 166 (dk_at dksL_law_22 3 rfl rfl)
theorem dL_law_662 : decode cL_law 662 = .ok (.istore 5, 2) := dk_54 5 (dk_at dksL_law_22 6 rfl rfl)
theorem dL_law_664 : decode cL_law 664 = .ok (.aload_n 2, 1) := dk_44 (dk_at dksL_law_22 8 rfl rfl)
theorem dL_law_665 : decode cL_law 665 = .ok (.aload_n 0, 1) := dk_42 (dk_at dksL_law_22 9 rfl rfl)
theorem dL_law_666 : decode cL_law 666 = .ok (.iload 4, 2) := dk_21 4 (dk_at dksL_law_22 10 rfl rfl)
theorem dL_law_668 : decode cL_law 668 = .ok (.iconst 1, 1) := dk_4 (dk_at dksL_law_22 12 rfl rfl)
theorem dL_law_669 : decode cL_law 669 = .ok (.iadd, 1) := dk_96 (dk_at dksL_law_22 13 rfl rfl)
theorem dL_law_670 : decode cL_law 670 = .ok (.iaload, 1) := dk_46 (dk_at dksL_law_22 14 rfl rfl)
theorem dL_law_671 : decode cL_law 671 = .ok (.invokevirtual 168, 3) := dk_182 0 168 (dk_at dksL_law_22 15 rfl rfl)
theorem dL_law_674 : decode cL_law 674 = .ok (.istore 6, 2) := dk_54 6 (dk_at dksL_law_22 18 rfl rfl)
theorem dL_law_676 : decode cL_law 676 = .ok (.aload_n 2, 1) := dk_44 (dk_at dksL_law_22 20 rfl rfl)
theorem dL_law_677 : decode cL_law 677 = .ok (.invokevirtual 104, 3) := dk_182 0 104 (dk_at dksL_law_22 21 rfl rfl)
theorem dL_law_680 : decode cL_law 680 = .ok (.iload 5, 2) := dk_21 5 (dk_at dksL_law_23 0 rfl rfl)
theorem dL_law_682 : decode cL_law 682 = .ok (.if_icmp .eq 5, 3) := dk_159 0 5 (dk_at dksL_law_23 2 rfl rfl)
theorem dL_law_685 : decode cL_law 685 = .ok (.iconst 0, 1) := dk_3 (dk_at dksL_law_23 5 rfl rfl)
theorem dL_law_686 : decode cL_law 686 = .ok (.ireturn, 1) := dk_172 (dk_at dksL_law_23 6 rfl rfl)
theorem dL_law_687 : decode cL_law 687 = .ok (.iload 5, 2) := dk_21 5 (dk_at dksL_law_23 7 rfl rfl)
theorem dL_law_689 : decode cL_law 689 = .ok (.ifCond .ne 15, 3) := dk_154 0 15 (dk_at dksL_law_23 9 rfl rfl)
theorem dL_law_692 : decode cL_law 692 = .ok (.aload_n 3, 1) := dk_45 (dk_at dksL_law_23 12 rfl rfl)
theorem dL_law_693 : decode cL_law 693 = .ok (.iconst 0, 1) := dk_3 (dk_at dksL_law_23 13 rfl rfl)
theorem dL_law_694 : decode cL_law 694 = .ok (.laload, 1) := dk_47 (dk_at dksL_law_23 14 rfl rfl)
theorem dL_law_695 : decode cL_law 695 = .ok (.iload 6, 2) := dk_21 6 (dk_at dksL_law_23 15 rfl rfl)
theorem dL_law_697 : decode cL_law 697 = .ok (.i2l, 1) := dk_133 (dk_at dksL_law_23 17 rfl rfl)
theorem dL_law_698 : decode cL_law 698 = .ok (.lcmp, 1) := dk_148 (dk_at dksL_law_23 18 rfl rfl)
theorem dL_law_699 : decode cL_law 699 = .ok (.ifCond .eq 5, 3) := dk_153 0 5 (dk_at dksL_law_23 19 rfl rfl)
theorem dL_law_702 : decode cL_law 702 = .ok (.iconst 0, 1) := dk_3 (dk_at dksL_law_23 22 rfl rfl)
theorem dL_law_703 : decode cL_law 703 = .ok (.ireturn, 1) := dk_172 (dk_at dksL_law_23 23 rfl rfl)
theorem dL_law_704 : decode cL_law 704 = .ok (.goto 1252, 3) := dk_167 4 228 (dk_at dksL_law_24 0 rfl rfl)
theorem dL_law_707 : decode cL_law 707 = .ok (.aload_n 1, 1) := dk_43 (dk_at dksL_law_24 3 rfl rfl)
theorem dL_law_708 : decode cL_law 708 = .ok (.aload_n 0, 1) := dk_42 (dk_at dksL_law_24 4 rfl rfl)
theorem dL_law_709 : decode cL_law 709 = .ok (.iload 4, 2) := dk_21 4 (dk_at dksL_law_24 5 rfl rfl)
theorem dL_law_711 : decode cL_law 711 = .ok (.iconst 1, 1) := dk_4 (dk_at dksL_law_24 7 rfl rfl)
theorem dL_law_712 : decode cL_law 712 = .ok (.iadd, 1) := dk_96 (dk_at dksL_law_24 8 rfl rfl)
theorem dL_law_713 : decode cL_law 713 = .ok (.iaload, 1) := dk_46 (dk_at dksL_law_24 9 rfl rfl)
theorem dL_law_714 : decode cL_law 714 = .ok (.aload_n 3, 1) := dk_45 (dk_at dksL_law_24 10 rfl rfl)
theorem dL_law_715 : decode cL_law 715 = .ok (.invokestatic 169, 3) := dk_184 0 169 (dk_at dksL_law_24 11 rfl rfl)
theorem dL_law_718 : decode cL_law 718 = .ok (.istore 5, 2) := dk_54 5 (dk_at dksL_law_24 14 rfl rfl)
theorem dL_law_720 : decode cL_law 720 = .ok (.aload_n 2, 1) := dk_44 (dk_at dksL_law_24 16 rfl rfl)
theorem dL_law_721 : decode cL_law 721 = .ok (.aload_n 0, 1) := dk_42 (dk_at dksL_law_24 17 rfl rfl)
theorem dL_law_722 : decode cL_law 722 = .ok (.iload 4, 2) := dk_21 4 (dk_at dksL_law_24 18 rfl rfl)
theorem dL_law_724 : decode cL_law 724 = .ok (.iconst 1, 1) := dk_4 (dk_at dksL_law_24 20 rfl rfl)
theorem dL_law_725 : decode cL_law 725 = .ok (.iadd, 1) := dk_96 (dk_at dksL_law_24 21 rfl rfl)
theorem dL_law_726 : decode cL_law 726 = .ok (.iaload, 1) := dk_46 (dk_at dksL_law_24 22 rfl rfl)
theorem dL_law_727 : decode cL_law 727 = .ok (.invokevirtual 171, 3) := dk_182 0 171 (dk_at dksL_law_25 0 rfl rfl)
theorem dL_law_730 : decode cL_law 730 = .ok (.istore 6, 2) := dk_54 6 (dk_at dksL_law_25 3 rfl rfl)
theorem dL_law_732 : decode cL_law 732 = .ok (.aload_n 2, 1) := dk_44 (dk_at dksL_law_25 5 rfl rfl)
theorem dL_law_733 : decode cL_law 733 = .ok (.invokevirtual 104, 3) := dk_182 0 104 (dk_at dksL_law_25 6 rfl rfl)
theorem dL_law_736 : decode cL_law 736 = .ok (.iload 5, 2) := dk_21 5 (dk_at dksL_law_25 9 rfl rfl)
theorem dL_law_738 : decode cL_law 738 = .ok (.if_icmp .eq 5, 3) := dk_159 0 5 (dk_at dksL_law_25 11 rfl rfl)
theorem dL_law_741 : decode cL_law 741 = .ok (.iconst 0, 1) := dk_3 (dk_at dksL_law_25 14 rfl rfl)
theorem dL_law_742 : decode cL_law 742 = .ok (.ireturn, 1) := dk_172 (dk_at dksL_law_25 15 rfl rfl)
theorem dL_law_743 : decode cL_law 743 = .ok (.iload 5, 2) := dk_21 5 (dk_at dksL_law_25 16 rfl rfl)
theorem dL_law_745 : decode cL_law 745 = .ok (.ifCond .ne 22, 3) := dk_154 0 22 (dk_at dksL_law_25 18 rfl rfl)
theorem dL_law_748 : decode cL_law 748 = .ok (.aload_n 3, 1) := dk_45 (dk_at dksL_law_25 21 rfl rfl)
theorem dL_law_749 : decode cL_law 749 = .ok (.iconst 0, 1) := dk_3 (dk_at dksL_law_25 22 rfl rfl)
theorem dL_law_750 : decode cL_law 750 = .ok (.laload, 1) := dk_47 (dk_at dksL_law_25 23 rfl rfl)
theorem dL_law_751 : decode cL_law 751 = .ok (.iload 6, 2) := dk_21 6 (dk_at dksL_law_26 0 rfl rfl)
theorem dL_law_753 : decode cL_law 753 = .ok (.ifCond .eq 7, 3) := dk_153 0 7 (dk_at dksL_law_26 2 rfl rfl)
theorem dL_law_756 : decode cL_law 756 = .ok (.lconst 1, 1) := dk_10 (dk_at dksL_law_26 5 rfl rfl)
theorem dL_law_757 : decode cL_law 757 = .ok (.goto 4, 3) := dk_167 0 4 (dk_at dksL_law_26 6 rfl rfl)
theorem dL_law_760 : decode cL_law 760 = .ok (.lconst 0, 1) := dk_9 (dk_at dksL_law_26 9 rfl rfl)
theorem dL_law_761 : decode cL_law 761 = .ok (.lcmp, 1) := dk_148 (dk_at dksL_law_26 10 rfl rfl)
theorem dL_law_762 : decode cL_law 762 = .ok (.ifCond .eq 5, 3) := dk_153 0 5 (dk_at dksL_law_26 11 rfl rfl)
theorem dL_law_765 : decode cL_law 765 = .ok (.iconst 0, 1) := dk_3 (dk_at dksL_law_26 14 rfl rfl)
theorem dL_law_766 : decode cL_law 766 = .ok (.ireturn, 1) := dk_172 (dk_at dksL_law_26 15 rfl rfl)
theorem dL_law_767 : decode cL_law 767 = .ok (.goto 1189, 3) := dk_167 4 165 (dk_at dksL_law_26 16 rfl rfl)
theorem dL_law_770 : decode cL_law 770 = .ok (.aload_n 1, 1) := dk_43 (dk_at dksL_law_26 19 rfl rfl)
theorem dL_law_771 : decode cL_law 771 = .ok (.aload_n 0, 1) := dk_42 (dk_at dksL_law_26 20 rfl rfl)
theorem dL_law_772 : decode cL_law 772 = .ok (.iload 4, 2) := dk_21 4 (dk_at dksL_law_26 21 rfl rfl)
theorem dL_law_774 : decode cL_law 774 = .ok (.iconst 1, 1) := dk_4 (dk_at dksL_law_26 23 rfl rfl)
theorem dL_law_775 : decode cL_law 775 = .ok (.iadd, 1) := dk_96 (dk_at dksL_law_27 0 rfl rfl)
theorem dL_law_776 : decode cL_law 776 = .ok (.iaload, 1) := dk_46 (dk_at dksL_law_27 1 rfl rfl)
theorem dL_law_777 : decode cL_law 777 = .ok (.aload_n 3, 1) := dk_45 (dk_at dksL_law_27 2 rfl rfl)
theorem dL_law_778 : decode cL_law 778 = .ok (.invokestatic 172, 3) := dk_184 0 172 (dk_at dksL_law_27 3 rfl rfl)
theorem dL_law_781 : decode cL_law 781 = .ok (.istore 5, 2) := dk_54 5 (dk_at dksL_law_27 6 rfl rfl)
theorem dL_law_783 : decode cL_law 783 = .ok (.aload_n 2, 1) := dk_44 (dk_at dksL_law_27 8 rfl rfl)
theorem dL_law_784 : decode cL_law 784 = .ok (.aload_n 0, 1) := dk_42 (dk_at dksL_law_27 9 rfl rfl)
theorem dL_law_785 : decode cL_law 785 = .ok (.iload 4, 2) := dk_21 4 (dk_at dksL_law_27 10 rfl rfl)
theorem dL_law_787 : decode cL_law 787 = .ok (.iconst 1, 1) := dk_4 (dk_at dksL_law_27 12 rfl rfl)
theorem dL_law_788 : decode cL_law 788 = .ok (.iadd, 1) := dk_96 (dk_at dksL_law_27 13 rfl rfl)
theorem dL_law_789 : decode cL_law 789 = .ok (.iaload, 1) := dk_46 (dk_at dksL_law_27 14 rfl rfl)
theorem dL_law_790 : decode cL_law 790 = .ok (.invokevirtual 174, 3) := dk_182 0 174 (dk_at dksL_law_27 15 rfl rfl)
theorem dL_law_793 : decode cL_law 793 = .ok (.istore 6, 2) := dk_54 6 (dk_at dksL_law_27 18 rfl rfl)
theorem dL_law_795 : decode cL_law 795 = .ok (.aload_n 2, 1) := dk_44 (dk_at dksL_law_27 20 rfl rfl)
theorem dL_law_796 : decode cL_law 796 = .ok (.invokevirtual 104, 3) := dk_182 0 104 (dk_at dksL_law_27 21 rfl rfl)
theorem dL_law_799 : decode cL_law 799 = .ok (.iload 5, 2) := dk_21 5 (dk_at dksL_law_28 0 rfl rfl)
theorem dL_law_801 : decode cL_law 801 = .ok (.if_icmp .eq 5, 3) := dk_159 0 5 (dk_at dksL_law_28 2 rfl rfl)
theorem dL_law_804 : decode cL_law 804 = .ok (.iconst 0, 1) := dk_3 (dk_at dksL_law_28 5 rfl rfl)
theorem dL_law_805 : decode cL_law 805 = .ok (.ireturn, 1) := dk_172 (dk_at dksL_law_28 6 rfl rfl)
theorem dL_law_806 : decode cL_law 806 = .ok (.iload 5, 2) := dk_21 5 (dk_at dksL_law_28 7 rfl rfl)
theorem dL_law_808 : decode cL_law 808 = .ok (.ifCond .ne 22, 3) := dk_154 0 22 (dk_at dksL_law_28 9 rfl rfl)
theorem dL_law_811 : decode cL_law 811 = .ok (.aload_n 3, 1) := dk_45 (dk_at dksL_law_28 12 rfl rfl)
theorem dL_law_812 : decode cL_law 812 = .ok (.iconst 0, 1) := dk_3 (dk_at dksL_law_28 13 rfl rfl)
theorem dL_law_813 : decode cL_law 813 = .ok (.laload, 1) := dk_47 (dk_at dksL_law_28 14 rfl rfl)
theorem dL_law_814 : decode cL_law 814 = .ok (.iload 6, 2) := dk_21 6 (dk_at dksL_law_28 15 rfl rfl)
theorem dL_law_816 : decode cL_law 816 = .ok (.ifCond .eq 7, 3) := dk_153 0 7 (dk_at dksL_law_28 17 rfl rfl)
theorem dL_law_819 : decode cL_law 819 = .ok (.lconst 1, 1) := dk_10 (dk_at dksL_law_28 20 rfl rfl)
theorem dL_law_820 : decode cL_law 820 = .ok (.goto 4, 3) := dk_167 0 4 (dk_at dksL_law_28 21 rfl rfl)
theorem dL_law_823 : decode cL_law 823 = .ok (.lconst 0, 1) := dk_9 (dk_at dksL_law_29 0 rfl rfl)
theorem dL_law_824 : decode cL_law 824 = .ok (.lcmp, 1) := dk_148 (dk_at dksL_law_29 1 rfl rfl)
theorem dL_law_825 : decode cL_law 825 = .ok (.ifCond .eq 5, 3) := dk_153 0 5 (dk_at dksL_law_29 2 rfl rfl)
theorem dL_law_828 : decode cL_law 828 = .ok (.iconst 0, 1) := dk_3 (dk_at dksL_law_29 5 rfl rfl)
theorem dL_law_829 : decode cL_law 829 = .ok (.ireturn, 1) := dk_172 (dk_at dksL_law_29 6 rfl rfl)
theorem dL_law_830 : decode cL_law 830 = .ok (.goto 1126, 3) := dk_167 4 102 (dk_at dksL_law_29 7 rfl rfl)
theorem dL_law_833 : decode cL_law 833 = .ok (.aload_n 1, 1) := dk_43 (dk_at dksL_law_29 10 rfl rfl)
theorem dL_law_834 : decode cL_law 834 = .ok (.aload_n 0, 1) := dk_42 (dk_at dksL_law_29 11 rfl rfl)
theorem dL_law_835 : decode cL_law 835 = .ok (.iload 4, 2) := dk_21 4 (dk_at dksL_law_29 12 rfl rfl)
theorem dL_law_837 : decode cL_law 837 = .ok (.iconst 1, 1) := dk_4 (dk_at dksL_law_29 14 rfl rfl)
theorem dL_law_838 : decode cL_law 838 = .ok (.iadd, 1) := dk_96 (dk_at dksL_law_29 15 rfl rfl)
theorem dL_law_839 : decode cL_law 839 = .ok (.iaload, 1) := dk_46 (dk_at dksL_law_29 16 rfl rfl)
theorem dL_law_840 : decode cL_law 840 = .ok (.aload_n 3, 1) := dk_45 (dk_at dksL_law_29 17 rfl rfl)
theorem dL_law_841 : decode cL_law 841 = .ok (.invokestatic 175, 3) := dk_184 0 175 (dk_at dksL_law_29 18 rfl rfl)
theorem dL_law_844 : decode cL_law 844 = .ok (.istore 5, 2) := dk_54 5 (dk_at dksL_law_29 21 rfl rfl)
theorem dL_law_846 : decode cL_law 846 = .ok (.aload_n 2, 1) := dk_44 (dk_at dksL_law_29 23 rfl rfl)
theorem dL_law_847 : decode cL_law 847 = .ok (.aload_n 0, 1) := dk_42 (dk_at dksL_law_30 0 rfl rfl)
theorem dL_law_848 : decode cL_law 848 = .ok (.iload 4, 2) := dk_21 4 (dk_at dksL_law_30 1 rfl rfl)
theorem dL_law_850 : decode cL_law 850 = .ok (.iconst 1, 1) := dk_4 (dk_at dksL_law_30 3 rfl rfl)
theorem dL_law_851 : decode cL_law 851 = .ok (.iadd, 1) := dk_96 (dk_at dksL_law_30 4 rfl rfl)
theorem dL_law_852 : decode cL_law 852 = .ok (.iaload, 1) := dk_46 (dk_at dksL_law_30 5 rfl rfl)
theorem dL_law_853 : decode cL_law 853 = .ok (.invokevirtual 177, 3) := dk_182 0 177 (dk_at dksL_law_30 6 rfl rfl)
theorem dL_law_856 : decode cL_law 856 = .ok (.istore 6, 2) := dk_54 6 (dk_at dksL_law_30 9 rfl rfl)
theorem dL_law_858 : decode cL_law 858 = .ok (.aload_n 2, 1) := dk_44 (dk_at dksL_law_30 11 rfl rfl)
theorem dL_law_859 : decode cL_law 859 = .ok (.invokevirtual 104, 3) := dk_182 0 104 (dk_at dksL_law_30 12 rfl rfl)
theorem dL_law_862 : decode cL_law 862 = .ok (.iload 5, 2) := dk_21 5 (dk_at dksL_law_30 15 rfl rfl)
theorem dL_law_864 : decode cL_law 864 = .ok (.if_icmp .eq 5, 3) := dk_159 0 5 (dk_at dksL_law_30 17 rfl rfl)
theorem dL_law_867 : decode cL_law 867 = .ok (.iconst 0, 1) := dk_3 (dk_at dksL_law_30 20 rfl rfl)
theorem dL_law_868 : decode cL_law 868 = .ok (.ireturn, 1) := dk_172 (dk_at dksL_law_30 21 rfl rfl)
theorem dL_law_869 : decode cL_law 869 = .ok (.iload 5, 2) := dk_21 5 (dk_at dksL_law_30 22 rfl rfl)
theorem dL_law_871 : decode cL_law 871 = .ok (.ifCond .ne 15, 3) := dk_154 0 15 (dk_at dksL_law_31 0 rfl rfl)
theorem dL_law_874 : decode cL_law 874 = .ok (.aload_n 3, 1) := dk_45 (dk_at dksL_law_31 3 rfl rfl)
theorem dL_law_875 : decode cL_law 875 = .ok (.iconst 0, 1) := dk_3 (dk_at dksL_law_31 4 rfl rfl)
theorem dL_law_876 : decode cL_law 876 = .ok (.laload, 1) := dk_47 (dk_at dksL_law_31 5 rfl rfl)
theorem dL_law_877 : decode cL_law 877 = .ok (.iload 6, 2) := dk_21 6 (dk_at dksL_law_31 6 rfl rfl)
theorem dL_law_879 : decode cL_law 879 = .ok (.i2l, 1) := dk_133 (dk_at dksL_law_31 8 rfl rfl)
theorem dL_law_880 : decode cL_law 880 = .ok (.lcmp, 1) := dk_148 (dk_at dksL_law_31 9 rfl rfl)
theorem dL_law_881 : decode cL_law 881 = .ok (.ifCond .eq 5, 3) := dk_153 0 5 (dk_at dksL_law_31 10 rfl rfl)
theorem dL_law_884 : decode cL_law 884 = .ok (.iconst 0, 1) := dk_3 (dk_at dksL_law_31 13 rfl rfl)
theorem dL_law_885 : decode cL_law 885 = .ok (.ireturn, 1) := dk_172 (dk_at dksL_law_31 14 rfl rfl)
theorem dL_law_886 : decode cL_law 886 = .ok (.goto 1070, 3) := dk_167 4 46 (dk_at dksL_law_31 15 rfl rfl)
theorem dL_law_889 : decode cL_law 889 = .ok (.aload_n 1, 1) := dk_43 (dk_at dksL_law_31 18 rfl rfl)
theorem dL_law_890 : decode cL_law 890 = .ok (.aload_n 0, 1) := dk_42 (dk_at dksL_law_31 19 rfl rfl)
theorem dL_law_891 : decode cL_law 891 = .ok (.iload 4, 2) := dk_21 4 (dk_at dksL_law_31 20 rfl rfl)
theorem dL_law_893 : decode cL_law 893 = .ok (.iconst 1, 1) := dk_4 (dk_at dksL_law_31 22 rfl rfl)
theorem dL_law_894 : decode cL_law 894 = .ok (.iadd, 1) := dk_96 (dk_at dksL_law_31 23 rfl rfl)
theorem dL_law_895 : decode cL_law 895 = .ok (.iaload, 1) := dk_46 (dk_at dksL_law_32 0 rfl rfl)
theorem dL_law_896 : decode cL_law 896 = .ok (.aload_n 3, 1) := dk_45 (dk_at dksL_law_32 1 rfl rfl)
theorem dL_law_897 : decode cL_law 897 = .ok (.invokestatic 178, 3) := dk_184 0 178 (dk_at dksL_law_32 2 rfl rfl)
theorem dL_law_900 : decode cL_law 900 = .ok (.istore 5, 2) := dk_54 5 (dk_at dksL_law_32 5 rfl rfl)
theorem dL_law_902 : decode cL_law 902 = .ok (.aload_n 2, 1) := dk_44 (dk_at dksL_law_32 7 rfl rfl)
theorem dL_law_903 : decode cL_law 903 = .ok (.aload_n 0, 1) := dk_42 (dk_at dksL_law_32 8 rfl rfl)
theorem dL_law_904 : decode cL_law 904 = .ok (.iload 4, 2) := dk_21 4 (dk_at dksL_law_32 9 rfl rfl)
theorem dL_law_906 : decode cL_law 906 = .ok (.iconst 1, 1) := dk_4 (dk_at dksL_law_32 11 rfl rfl)
theorem dL_law_907 : decode cL_law 907 = .ok (.iadd, 1) := dk_96 (dk_at dksL_law_32 12 rfl rfl)
theorem dL_law_908 : decode cL_law 908 = .ok (.iaload, 1) := dk_46 (dk_at dksL_law_32 13 rfl rfl)
theorem dL_law_909 : decode cL_law 909 = .ok (.invokevirtual 180, 3) := dk_182 0 180 (dk_at dksL_law_32 14 rfl rfl)
theorem dL_law_912 : decode cL_law 912 = .ok (.istore 6, 2) := dk_54 6 (dk_at dksL_law_32 17 rfl rfl)
theorem dL_law_914 : decode cL_law 914 = .ok (.aload_n 2, 1) := dk_44 (dk_at dksL_law_32 19 rfl rfl)
theorem dL_law_915 : decode cL_law 915 = .ok (.invokevirtual 104, 3) := dk_182 0 104 (dk_at dksL_law_32 20 rfl rfl)
theorem dL_law_918 : decode cL_law 918 = .ok (.iload 5, 2) := dk_21 5 (dk_at dksL_law_33 0 rfl rfl)
theorem dL_law_920 : decode cL_law 920 = .ok (.if_icmp .eq 5, 3) := dk_159 0 5 (dk_at dksL_law_33 2 rfl rfl)
theorem dL_law_923 : decode cL_law 923 = .ok (.iconst 0, 1) := dk_3 (dk_at dksL_law_33 5 rfl rfl)
theorem dL_law_924 : decode cL_law 924 = .ok (.ireturn, 1) := dk_172 (dk_at dksL_law_33 6 rfl rfl)
theorem dL_law_925 : decode cL_law 925 = .ok (.iload 5, 2) := dk_21 5 (dk_at dksL_law_33 7 rfl rfl)
theorem dL_law_927 : decode cL_law 927 = .ok (.ifCond .ne 22, 3) := dk_154 0 22 (dk_at dksL_law_33 9 rfl rfl)
theorem dL_law_930 : decode cL_law 930 = .ok (.aload_n 3, 1) := dk_45 (dk_at dksL_law_33 12 rfl rfl)
theorem dL_law_931 : decode cL_law 931 = .ok (.iconst 0, 1) := dk_3 (dk_at dksL_law_33 13 rfl rfl)
theorem dL_law_932 : decode cL_law 932 = .ok (.laload, 1) := dk_47 (dk_at dksL_law_33 14 rfl rfl)
theorem dL_law_933 : decode cL_law 933 = .ok (.iload 6, 2) := dk_21 6 (dk_at dksL_law_33 15 rfl rfl)
theorem dL_law_935 : decode cL_law 935 = .ok (.ifCond .eq 7, 3) := dk_153 0 7 (dk_at dksL_law_33 17 rfl rfl)
theorem dL_law_938 : decode cL_law 938 = .ok (.lconst 1, 1) := dk_10 (dk_at dksL_law_33 20 rfl rfl)
theorem dL_law_939 : decode cL_law 939 = .ok (.goto 4, 3) := dk_167 0 4 (dk_at dksL_law_33 21 rfl rfl)
theorem dL_law_942 : decode cL_law 942 = .ok (.lconst 0, 1) := dk_9 (dk_at dksL_law_34 0 rfl rfl)
theorem dL_law_943 : decode cL_law 943 = .ok (.lcmp, 1) := dk_148 (dk_at dksL_law_34 1 rfl rfl)
theorem dL_law_944 : decode cL_law 944 = .ok (.ifCond .eq 5, 3) := dk_153 0 5 (dk_at dksL_law_34 2 rfl rfl)
theorem dL_law_947 : decode cL_law 947 = .ok (.iconst 0, 1) := dk_3 (dk_at dksL_law_34 5 rfl rfl)
theorem dL_law_948 : decode cL_law 948 = .ok (.ireturn, 1) := dk_172 (dk_at dksL_law_34 6 rfl rfl)
theorem dL_law_949 : decode cL_law 949 = .ok (.goto 1007, 3) := dk_167 3 239 (dk_at dksL_law_34 7 rfl rfl)
theorem dL_law_952 : decode cL_law 952 = .ok (.aload_n 1, 1) := dk_43 (dk_at dksL_law_34 10 rfl rfl)
theorem dL_law_953 : decode cL_law 953 = .ok (.aload_n 0, 1) := dk_42 (dk_at dksL_law_34 11 rfl rfl)
theorem dL_law_954 : decode cL_law 954 = .ok (.iload 4, 2) := dk_21 4 (dk_at dksL_law_34 12 rfl rfl)
theorem dL_law_956 : decode cL_law 956 = .ok (.iconst 1, 1) := dk_4 (dk_at dksL_law_34 14 rfl rfl)
theorem dL_law_957 : decode cL_law 957 = .ok (.iadd, 1) := dk_96 (dk_at dksL_law_34 15 rfl rfl)
theorem dL_law_958 : decode cL_law 958 = .ok (.iaload, 1) := dk_46 (dk_at dksL_law_34 16 rfl rfl)
theorem dL_law_959 : decode cL_law 959 = .ok (.aload_n 3, 1) := dk_45 (dk_at dksL_law_34 17 rfl rfl)
theorem dL_law_960 : decode cL_law 960 = .ok (.invokestatic 181, 3) := dk_184 0 181 (dk_at dksL_law_34 18 rfl rfl)
theorem dL_law_963 : decode cL_law 963 = .ok (.istore 5, 2) := dk_54 5 (dk_at dksL_law_34 21 rfl rfl)
theorem dL_law_965 : decode cL_law 965 = .ok (.aload_n 2, 1) := dk_44 (dk_at dksL_law_34 23 rfl rfl)
theorem dL_law_966 : decode cL_law 966 = .ok (.aload_n 0, 1) := dk_42 (dk_at dksL_law_35 0 rfl rfl)
theorem dL_law_967 : decode cL_law 967 = .ok (.iload 4, 2) := dk_21 4 (dk_at dksL_law_35 1 rfl rfl)
theorem dL_law_969 : decode cL_law 969 = .ok (.iconst 1, 1) := dk_4 (dk_at dksL_law_35 3 rfl rfl)
theorem dL_law_970 : decode cL_law 970 = .ok (.iadd, 1) := dk_96 (dk_at dksL_law_35 4 rfl rfl)
theorem dL_law_971 : decode cL_law 971 = .ok (.iaload, 1) := dk_46 (dk_at dksL_law_35 5 rfl rfl)
theorem dL_law_972 : decode cL_law 972 = .ok (.invokevirtual 183, 3) := dk_182 0 183 (dk_at dksL_law_35 6 rfl rfl)
theorem dL_law_975 : decode cL_law 975 = .ok (.istore 6, 2) := dk_54 6 (dk_at dksL_law_35 9 rfl rfl)
theorem dL_law_977 : decode cL_law 977 = .ok (.aload_n 2, 1) := dk_44 (dk_at dksL_law_35 11 rfl rfl)
theorem dL_law_978 : decode cL_law 978 = .ok (.invokevirtual 104, 3) := dk_182 0 104 (dk_at dksL_law_35 12 rfl rfl)
theorem dL_law_981 : decode cL_law 981 = .ok (.iload 5, 2) := dk_21 5 (dk_at dksL_law_35 15 rfl rfl)
theorem dL_law_983 : decode cL_law 983 = .ok (.if_icmp .eq 5, 3) := dk_159 0 5 (dk_at dksL_law_35 17 rfl rfl)
theorem dL_law_986 : decode cL_law 986 = .ok (.iconst 0, 1) := dk_3 (dk_at dksL_law_35 20 rfl rfl)
theorem dL_law_987 : decode cL_law 987 = .ok (.ireturn, 1) := dk_172 (dk_at dksL_law_35 21 rfl rfl)
theorem dL_law_988 : decode cL_law 988 = .ok (.iload 5, 2) := dk_21 5 (dk_at dksL_law_35 22 rfl rfl)
theorem dL_law_990 : decode cL_law 990 = .ok (.ifCond .ne 22, 3) := dk_154 0 22 (dk_at dksL_law_36 0 rfl rfl)
theorem dL_law_993 : decode cL_law 993 = .ok (.aload_n 3, 1) := dk_45 (dk_at dksL_law_36 3 rfl rfl)
theorem dL_law_994 : decode cL_law 994 = .ok (.iconst 0, 1) := dk_3 (dk_at dksL_law_36 4 rfl rfl)
theorem dL_law_995 : decode cL_law 995 = .ok (.laload, 1) := dk_47 (dk_at dksL_law_36 5 rfl rfl)
theorem dL_law_996 : decode cL_law 996 = .ok (.iload 6, 2) := dk_21 6 (dk_at dksL_law_36 6 rfl rfl)
theorem dL_law_998 : decode cL_law 998 = .ok (.ifCond .eq 7, 3) := dk_153 0 7 (dk_at dksL_law_36 8 rfl rfl)
theorem dL_law_1001 : decode cL_law 1001 = .ok (.lconst 1, 1) := dk_10 (dk_at dksL_law_36 11 rfl rfl)
theorem dL_law_1002 : decode cL_law 1002 = .ok (.goto 4, 3) := dk_167 0 4 (dk_at dksL_law_36 12 rfl rfl)
theorem dL_law_1005 : decode cL_law 1005 = .ok (.lconst 0, 1) := dk_9 (dk_at dksL_law_36 15 rfl rfl)
theorem dL_law_1006 : decode cL_law 1006 = .ok (.lcmp, 1) := dk_148 (dk_at dksL_law_36 16 rfl rfl)
theorem dL_law_1007 : decode cL_law 1007 = .ok (.ifCond .eq 5, 3) := dk_153 0 5 (dk_at dksL_law_36 17 rfl rfl)
theorem dL_law_1010 : decode cL_law 1010 = .ok (.iconst 0, 1) := dk_3 (dk_at dksL_law_36 20 rfl rfl)
theorem dL_law_1011 : decode cL_law 1011 = .ok (.ireturn, 1) := dk_172 (dk_at dksL_law_36 21 rfl rfl)
theorem dL_law_1012 : decode cL_law 1012 = .ok (.goto 944, 3) := dk_167 3 176 (dk_at dksL_law_37 0 rfl rfl)
theorem dL_law_1015 : decode cL_law 1015 = .ok (.aload_n 1, 1) := dk_43 (dk_at dksL_law_37 3 rfl rfl)
theorem dL_law_1016 : decode cL_law 1016 = .ok (.aload_n 0, 1) := dk_42 (dk_at dksL_law_37 4 rfl rfl)
theorem dL_law_1017 : decode cL_law 1017 = .ok (.iload 4, 2) := dk_21 4 (dk_at dksL_law_37 5 rfl rfl)
theorem dL_law_1019 : decode cL_law 1019 = .ok (.iconst 1, 1) := dk_4 (dk_at dksL_law_37 7 rfl rfl)
theorem dL_law_1020 : decode cL_law 1020 = .ok (.iadd, 1) := dk_96 (dk_at dksL_law_37 8 rfl rfl)
theorem dL_law_1021 : decode cL_law 1021 = .ok (.iaload, 1) := dk_46 (dk_at dksL_law_37 9 rfl rfl)
theorem dL_law_1022 : decode cL_law 1022 = .ok (.aload_n 3, 1) := dk_45 (dk_at dksL_law_37 10 rfl rfl)
theorem dL_law_1023 : decode cL_law 1023 = .ok (.invokestatic 184, 3) := dk_184 0 184 (dk_at dksL_law_37 11 rfl rfl)
theorem dL_law_1026 : decode cL_law 1026 = .ok (.istore 5, 2) := dk_54 5 (dk_at dksL_law_37 14 rfl rfl)
theorem dL_law_1028 : decode cL_law 1028 = .ok (.aload_n 2, 1) := dk_44 (dk_at dksL_law_37 16 rfl rfl)
theorem dL_law_1029 : decode cL_law 1029 = .ok (.aload_n 0, 1) := dk_42 (dk_at dksL_law_37 17 rfl rfl)
theorem dL_law_1030 : decode cL_law 1030 = .ok (.iload 4, 2) := dk_21 4 (dk_at dksL_law_37 18 rfl rfl)
theorem dL_law_1032 : decode cL_law 1032 = .ok (.iconst 1, 1) := dk_4 (dk_at dksL_law_37 20 rfl rfl)
theorem dL_law_1033 : decode cL_law 1033 = .ok (.iadd, 1) := dk_96 (dk_at dksL_law_37 21 rfl rfl)
theorem dL_law_1034 : decode cL_law 1034 = .ok (.iaload, 1) := dk_46 (dk_at dksL_law_37 22 rfl rfl)
theorem dL_law_1035 : decode cL_law 1035 = .ok (.invokevirtual 186, 3) := dk_182 0 186 (dk_at dksL_law_38 0 rfl rfl)
theorem dL_law_1038 : decode cL_law 1038 = .ok (.istore 6, 2) := dk_54 6 (dk_at dksL_law_38 3 rfl rfl)
theorem dL_law_1040 : decode cL_law 1040 = .ok (.aload_n 2, 1) := dk_44 (dk_at dksL_law_38 5 rfl rfl)
theorem dL_law_1041 : decode cL_law 1041 = .ok (.invokevirtual 104, 3) := dk_182 0 104 (dk_at dksL_law_38 6 rfl rfl)
theorem dL_law_1044 : decode cL_law 1044 = .ok (.iload 5, 2) := dk_21 5 (dk_at dksL_law_38 9 rfl rfl)
theorem dL_law_1046 : decode cL_law 1046 = .ok (.if_icmp .eq 5, 3) := dk_159 0 5 (dk_at dksL_law_38 11 rfl rfl)
theorem dL_law_1049 : decode cL_law 1049 = .ok (.iconst 0, 1) := dk_3 (dk_at dksL_law_38 14 rfl rfl)
theorem dL_law_1050 : decode cL_law 1050 = .ok (.ireturn, 1) := dk_172 (dk_at dksL_law_38 15 rfl rfl)
theorem dL_law_1051 : decode cL_law 1051 = .ok (.iload 5, 2) := dk_21 5 (dk_at dksL_law_38 16 rfl rfl)
theorem dL_law_1053 : decode cL_law 1053 = .ok (.ifCond .ne 22, 3) := dk_154 0 22 (dk_at dksL_law_38 18 rfl rfl)
theorem dL_law_1056 : decode cL_law 1056 = .ok (.aload_n 3, 1) := dk_45 (dk_at dksL_law_38 21 rfl rfl)
theorem dL_law_1057 : decode cL_law 1057 = .ok (.iconst 0, 1) := dk_3 (dk_at dksL_law_38 22 rfl rfl)
theorem dL_law_1058 : decode cL_law 1058 = .ok (.laload, 1) := dk_47 (dk_at dksL_law_38 23 rfl rfl)
theorem dL_law_1059 : decode cL_law 1059 = .ok (.iload 6, 2) := dk_21 6 (dk_at dksL_law_39 0 rfl rfl)
theorem dL_law_1061 : decode cL_law 1061 = .ok (.ifCond .eq 7, 3) := dk_153 0 7 (dk_at dksL_law_39 2 rfl rfl)
theorem dL_law_1064 : decode cL_law 1064 = .ok (.lconst 1, 1) := dk_10 (dk_at dksL_law_39 5 rfl rfl)
theorem dL_law_1065 : decode cL_law 1065 = .ok (.goto 4, 3) := dk_167 0 4 (dk_at dksL_law_39 6 rfl rfl)
theorem dL_law_1068 : decode cL_law 1068 = .ok (.lconst 0, 1) := dk_9 (dk_at dksL_law_39 9 rfl rfl)
theorem dL_law_1069 : decode cL_law 1069 = .ok (.lcmp, 1) := dk_148 (dk_at dksL_law_39 10 rfl rfl)
theorem dL_law_1070 : decode cL_law 1070 = .ok (.ifCond .eq 5, 3) := dk_153 0 5 (dk_at dksL_law_39 11 rfl rfl)
theorem dL_law_1073 : decode cL_law 1073 = .ok (.iconst 0, 1) := dk_3 (dk_at dksL_law_39 14 rfl rfl)
theorem dL_law_1074 : decode cL_law 1074 = .ok (.ireturn, 1) := dk_172 (dk_at dksL_law_39 15 rfl rfl)
theorem dL_law_1075 : decode cL_law 1075 = .ok (.goto 881, 3) := dk_167 3 113 (dk_at dksL_law_39 16 rfl rfl)
theorem dL_law_1078 : decode cL_law 1078 = .ok (.aload_n 1, 1) := dk_43 (dk_at dksL_law_39 19 rfl rfl)
theorem dL_law_1079 : decode cL_law 1079 = .ok (.aload_n 0, 1) := dk_42 (dk_at dksL_law_39 20 rfl rfl)
theorem dL_law_1080 : decode cL_law 1080 = .ok (.iload 4, 2) := dk_21 4 (dk_at dksL_law_39 21 rfl rfl)
theorem dL_law_1082 : decode cL_law 1082 = .ok (.iconst 1, 1) := dk_4 (dk_at dksL_law_39 23 rfl rfl)
theorem dL_law_1083 : decode cL_law 1083 = .ok (.iadd, 1) := dk_96 (dk_at dksL_law_40 0 rfl rfl)
theorem dL_law_1084 : decode cL_law 1084 = .ok (.iaload, 1) := dk_46 (dk_at dksL_law_40 1 rfl rfl)
theorem dL_law_1085 : decode cL_law 1085 = .ok (.aload_n 3, 1) := dk_45 (dk_at dksL_law_40 2 rfl rfl)
theorem dL_law_1086 : decode cL_law 1086 = .ok (.invokestatic 187, 3) := dk_184 0 187 (dk_at dksL_law_40 3 rfl rfl)
theorem dL_law_1089 : decode cL_law 1089 = .ok (.istore 5, 2) := dk_54 5 (dk_at dksL_law_40 6 rfl rfl)
theorem dL_law_1091 : decode cL_law 1091 = .ok (.aload_n 2, 1) := dk_44 (dk_at dksL_law_40 8 rfl rfl)
theorem dL_law_1092 : decode cL_law 1092 = .ok (.aload_n 0, 1) := dk_42 (dk_at dksL_law_40 9 rfl rfl)
theorem dL_law_1093 : decode cL_law 1093 = .ok (.iload 4, 2) := dk_21 4 (dk_at dksL_law_40 10 rfl rfl)
theorem dL_law_1095 : decode cL_law 1095 = .ok (.iconst 1, 1) := dk_4 (dk_at dksL_law_40 12 rfl rfl)
theorem dL_law_1096 : decode cL_law 1096 = .ok (.iadd, 1) := dk_96 (dk_at dksL_law_40 13 rfl rfl)
theorem dL_law_1097 : decode cL_law 1097 = .ok (.iaload, 1) := dk_46 (dk_at dksL_law_40 14 rfl rfl)
theorem dL_law_1098 : decode cL_law 1098 = .ok (.invokevirtual 189, 3) := dk_182 0 189 (dk_at dksL_law_40 15 rfl rfl)
theorem dL_law_1101 : decode cL_law 1101 = .ok (.istore 6, 2) := dk_54 6 (dk_at dksL_law_40 18 rfl rfl)
theorem dL_law_1103 : decode cL_law 1103 = .ok (.aload_n 2, 1) := dk_44 (dk_at dksL_law_40 20 rfl rfl)
theorem dL_law_1104 : decode cL_law 1104 = .ok (.invokevirtual 104, 3) := dk_182 0 104 (dk_at dksL_law_40 21 rfl rfl)
theorem dL_law_1107 : decode cL_law 1107 = .ok (.iload 5, 2) := dk_21 5 (dk_at dksL_law_41 0 rfl rfl)
theorem dL_law_1109 : decode cL_law 1109 = .ok (.if_icmp .eq 5, 3) := dk_159 0 5 (dk_at dksL_law_41 2 rfl rfl)
theorem dL_law_1112 : decode cL_law 1112 = .ok (.iconst 0, 1) := dk_3 (dk_at dksL_law_41 5 rfl rfl)
theorem dL_law_1113 : decode cL_law 1113 = .ok (.ireturn, 1) := dk_172 (dk_at dksL_law_41 6 rfl rfl)
theorem dL_law_1114 : decode cL_law 1114 = .ok (.iload 5, 2) := dk_21 5 (dk_at dksL_law_41 7 rfl rfl)
theorem dL_law_1116 : decode cL_law 1116 = .ok (.ifCond .ne 15, 3) := dk_154 0 15 (dk_at dksL_law_41 9 rfl rfl)
theorem dL_law_1119 : decode cL_law 1119 = .ok (.aload_n 3, 1) := dk_45 (dk_at dksL_law_41 12 rfl rfl)
theorem dL_law_1120 : decode cL_law 1120 = .ok (.iconst 0, 1) := dk_3 (dk_at dksL_law_41 13 rfl rfl)
theorem dL_law_1121 : decode cL_law 1121 = .ok (.laload, 1) := dk_47 (dk_at dksL_law_41 14 rfl rfl)
theorem dL_law_1122 : decode cL_law 1122 = .ok (.iload 6, 2) := dk_21 6 (dk_at dksL_law_41 15 rfl rfl)
theorem dL_law_1124 : decode cL_law 1124 = .ok (.i2l, 1) := dk_133 (dk_at dksL_law_41 17 rfl rfl)
theorem dL_law_1125 : decode cL_law 1125 = .ok (.lcmp, 1) := dk_148 (dk_at dksL_law_41 18 rfl rfl)
theorem dL_law_1126 : decode cL_law 1126 = .ok (.ifCond .eq 5, 3) := dk_153 0 5 (dk_at dksL_law_41 19 rfl rfl)
theorem dL_law_1129 : decode cL_law 1129 = .ok (.iconst 0, 1) := dk_3 (dk_at dksL_law_41 22 rfl rfl)
theorem dL_law_1130 : decode cL_law 1130 = .ok (.ireturn, 1) := dk_172 (dk_at dksL_law_41 23 rfl rfl)
theorem dL_law_1131 : decode cL_law 1131 = .ok (.goto 825, 3) := dk_167 3 57 (dk_at dksL_law_42 0 rfl rfl)
theorem dL_law_1134 : decode cL_law 1134 = .ok (.aload_n 1, 1) := dk_43 (dk_at dksL_law_42 3 rfl rfl)
theorem dL_law_1135 : decode cL_law 1135 = .ok (.aload_n 0, 1) := dk_42 (dk_at dksL_law_42 4 rfl rfl)
theorem dL_law_1136 : decode cL_law 1136 = .ok (.iload 4, 2) := dk_21 4 (dk_at dksL_law_42 5 rfl rfl)
theorem dL_law_1138 : decode cL_law 1138 = .ok (.iconst 1, 1) := dk_4 (dk_at dksL_law_42 7 rfl rfl)
theorem dL_law_1139 : decode cL_law 1139 = .ok (.iadd, 1) := dk_96 (dk_at dksL_law_42 8 rfl rfl)
theorem dL_law_1140 : decode cL_law 1140 = .ok (.iaload, 1) := dk_46 (dk_at dksL_law_42 9 rfl rfl)
theorem dL_law_1141 : decode cL_law 1141 = .ok (.aload_n 3, 1) := dk_45 (dk_at dksL_law_42 10 rfl rfl)
theorem dL_law_1142 : decode cL_law 1142 = .ok (.invokestatic 190, 3) := dk_184 0 190 (dk_at dksL_law_42 11 rfl rfl)
theorem dL_law_1145 : decode cL_law 1145 = .ok (.istore 5, 2) := dk_54 5 (dk_at dksL_law_42 14 rfl rfl)
theorem dL_law_1147 : decode cL_law 1147 = .ok (.aload_n 2, 1) := dk_44 (dk_at dksL_law_42 16 rfl rfl)
theorem dL_law_1148 : decode cL_law 1148 = .ok (.aload_n 0, 1) := dk_42 (dk_at dksL_law_42 17 rfl rfl)
theorem dL_law_1149 : decode cL_law 1149 = .ok (.iload 4, 2) := dk_21 4 (dk_at dksL_law_42 18 rfl rfl)
theorem dL_law_1151 : decode cL_law 1151 = .ok (.iconst 1, 1) := dk_4 (dk_at dksL_law_42 20 rfl rfl)
theorem dL_law_1152 : decode cL_law 1152 = .ok (.iadd, 1) := dk_96 (dk_at dksL_law_42 21 rfl rfl)
theorem dL_law_1153 : decode cL_law 1153 = .ok (.iaload, 1) := dk_46 (dk_at dksL_law_42 22 rfl rfl)
theorem dL_law_1154 : decode cL_law 1154 = .ok (.invokevirtual 192, 3) := dk_182 0 192 (dk_at dksL_law_43 0 rfl rfl)
theorem dL_law_1157 : decode cL_law 1157 = .ok (.istore 6, 2) := dk_54 6 (dk_at dksL_law_43 3 rfl rfl)
theorem dL_law_1159 : decode cL_law 1159 = .ok (.aload_n 2, 1) := dk_44 (dk_at dksL_law_43 5 rfl rfl)
theorem dL_law_1160 : decode cL_law 1160 = .ok (.invokevirtual 104, 3) := dk_182 0 104 (dk_at dksL_law_43 6 rfl rfl)
theorem dL_law_1163 : decode cL_law 1163 = .ok (.iload 5, 2) := dk_21 5 (dk_at dksL_law_43 9 rfl rfl)
theorem dL_law_1165 : decode cL_law 1165 = .ok (.if_icmp .eq 5, 3) := dk_159 0 5 (dk_at dksL_law_43 11 rfl rfl)
theorem dL_law_1168 : decode cL_law 1168 = .ok (.iconst 0, 1) := dk_3 (dk_at dksL_law_43 14 rfl rfl)
theorem dL_law_1169 : decode cL_law 1169 = .ok (.ireturn, 1) := dk_172 (dk_at dksL_law_43 15 rfl rfl)
theorem dL_law_1170 : decode cL_law 1170 = .ok (.iload 5, 2) := dk_21 5 (dk_at dksL_law_43 16 rfl rfl)
theorem dL_law_1172 : decode cL_law 1172 = .ok (.ifCond .ne 15, 3) := dk_154 0 15 (dk_at dksL_law_43 18 rfl rfl)
theorem dL_law_1175 : decode cL_law 1175 = .ok (.aload_n 3, 1) := dk_45 (dk_at dksL_law_43 21 rfl rfl)
theorem dL_law_1176 : decode cL_law 1176 = .ok (.iconst 0, 1) := dk_3 (dk_at dksL_law_43 22 rfl rfl)
theorem dL_law_1177 : decode cL_law 1177 = .ok (.laload, 1) := dk_47 (dk_at dksL_law_43 23 rfl rfl)
theorem dL_law_1178 : decode cL_law 1178 = .ok (.iload 6, 2) := dk_21 6 (dk_at dksL_law_44 0 rfl rfl)
theorem dL_law_1180 : decode cL_law 1180 = .ok (.i2l, 1) := dk_133 (dk_at dksL_law_44 2 rfl rfl)
theorem dL_law_1181 : decode cL_law 1181 = .ok (.lcmp, 1) := dk_148 (dk_at dksL_law_44 3 rfl rfl)
theorem dL_law_1182 : decode cL_law 1182 = .ok (.ifCond .eq 5, 3) := dk_153 0 5 (dk_at dksL_law_44 4 rfl rfl)
theorem dL_law_1185 : decode cL_law 1185 = .ok (.iconst 0, 1) := dk_3 (dk_at dksL_law_44 7 rfl rfl)
theorem dL_law_1186 : decode cL_law 1186 = .ok (.ireturn, 1) := dk_172 (dk_at dksL_law_44 8 rfl rfl)
theorem dL_law_1187 : decode cL_law 1187 = .ok (.goto 769, 3) := dk_167 3 1 (dk_at dksL_law_44 9 rfl rfl)
theorem dL_law_1190 : decode cL_law 1190 = .ok (.aload_n 1, 1) := dk_43 (dk_at dksL_law_44 12 rfl rfl)
theorem dL_law_1191 : decode cL_law 1191 = .ok (.aload_n 0, 1) := dk_42 (dk_at dksL_law_44 13 rfl rfl)
theorem dL_law_1192 : decode cL_law 1192 = .ok (.iload 4, 2) := dk_21 4 (dk_at dksL_law_44 14 rfl rfl)
theorem dL_law_1194 : decode cL_law 1194 = .ok (.iconst 1, 1) := dk_4 (dk_at dksL_law_44 16 rfl rfl)
theorem dL_law_1195 : decode cL_law 1195 = .ok (.iadd, 1) := dk_96 (dk_at dksL_law_44 17 rfl rfl)
theorem dL_law_1196 : decode cL_law 1196 = .ok (.iaload, 1) := dk_46 (dk_at dksL_law_44 18 rfl rfl)
theorem dL_law_1197 : decode cL_law 1197 = .ok (.aload_n 3, 1) := dk_45 (dk_at dksL_law_44 19 rfl rfl)
theorem dL_law_1198 : decode cL_law 1198 = .ok (.invokestatic 193, 3) := dk_184 0 193 (dk_at dksL_law_44 20 rfl rfl)
theorem dL_law_1201 : decode cL_law 1201 = .ok (.istore 5, 2) := dk_54 5 (dk_at dksL_law_45 0 rfl rfl)
theorem dL_law_1203 : decode cL_law 1203 = .ok (.aload_n 2, 1) := dk_44 (dk_at dksL_law_45 2 rfl rfl)
theorem dL_law_1204 : decode cL_law 1204 = .ok (.aload_n 0, 1) := dk_42 (dk_at dksL_law_45 3 rfl rfl)
theorem dL_law_1205 : decode cL_law 1205 = .ok (.iload 4, 2) := dk_21 4 (dk_at dksL_law_45 4 rfl rfl)
theorem dL_law_1207 : decode cL_law 1207 = .ok (.iconst 1, 1) := dk_4 (dk_at dksL_law_45 6 rfl rfl)
theorem dL_law_1208 : decode cL_law 1208 = .ok (.iadd, 1) := dk_96 (dk_at dksL_law_45 7 rfl rfl)
theorem dL_law_1209 : decode cL_law 1209 = .ok (.iaload, 1) := dk_46 (dk_at dksL_law_45 8 rfl rfl)
theorem dL_law_1210 : decode cL_law 1210 = .ok (.invokevirtual 195, 3) := dk_182 0 195 (dk_at dksL_law_45 9 rfl rfl)
theorem dL_law_1213 : decode cL_law 1213 = .ok (.istore 6, 2) := dk_54 6 (dk_at dksL_law_45 12 rfl rfl)
theorem dL_law_1215 : decode cL_law 1215 = .ok (.aload_n 2, 1) := dk_44 (dk_at dksL_law_45 14 rfl rfl)
theorem dL_law_1216 : decode cL_law 1216 = .ok (.invokevirtual 104, 3) := dk_182 0 104 (dk_at dksL_law_45 15 rfl rfl)
theorem dL_law_1219 : decode cL_law 1219 = .ok (.iload 5, 2) := dk_21 5 (dk_at dksL_law_45 18 rfl rfl)
theorem dL_law_1221 : decode cL_law 1221 = .ok (.if_icmp .eq 5, 3) := dk_159 0 5 (dk_at dksL_law_45 20 rfl rfl)
theorem dL_law_1224 : decode cL_law 1224 = .ok (.iconst 0, 1) := dk_3 (dk_at dksL_law_45 23 rfl rfl)
theorem dL_law_1225 : decode cL_law 1225 = .ok (.ireturn, 1) := dk_172 (dk_at dksL_law_46 0 rfl rfl)
theorem dL_law_1226 : decode cL_law 1226 = .ok (.iload 5, 2) := dk_21 5 (dk_at dksL_law_46 1 rfl rfl)
theorem dL_law_1228 : decode cL_law 1228 = .ok (.ifCond .ne 15, 3) := dk_154 0 15 (dk_at dksL_law_46 3 rfl rfl)
theorem dL_law_1231 : decode cL_law 1231 = .ok (.aload_n 3, 1) := dk_45 (dk_at dksL_law_46 6 rfl rfl)
theorem dL_law_1232 : decode cL_law 1232 = .ok (.iconst 0, 1) := dk_3 (dk_at dksL_law_46 7 rfl rfl)
theorem dL_law_1233 : decode cL_law 1233 = .ok (.laload, 1) := dk_47 (dk_at dksL_law_46 8 rfl rfl)
theorem dL_law_1234 : decode cL_law 1234 = .ok (.iload 6, 2) := dk_21 6 (dk_at dksL_law_46 9 rfl rfl)
theorem dL_law_1236 : decode cL_law 1236 = .ok (.i2l, 1) := dk_133 (dk_at dksL_law_46 11 rfl rfl)
theorem dL_law_1237 : decode cL_law 1237 = .ok (.lcmp, 1) := dk_148 (dk_at dksL_law_46 12 rfl rfl)
theorem dL_law_1238 : decode cL_law 1238 = .ok (.ifCond .eq 5, 3) := dk_153 0 5 (dk_at dksL_law_46 13 rfl rfl)
theorem dL_law_1241 : decode cL_law 1241 = .ok (.iconst 0, 1) := dk_3 (dk_at dksL_law_46 16 rfl rfl)
theorem dL_law_1242 : decode cL_law 1242 = .ok (.ireturn, 1) := dk_172 (dk_at dksL_law_46 17 rfl rfl)
theorem dL_law_1243 : decode cL_law 1243 = .ok (.goto 713, 3) := dk_167 2 201 (dk_at dksL_law_46 18 rfl rfl)
theorem dL_law_1246 : decode cL_law 1246 = .ok (.aload_n 1, 1) := dk_43 (dk_at dksL_law_46 21 rfl rfl)
theorem dL_law_1247 : decode cL_law 1247 = .ok (.aload_n 0, 1) := dk_42 (dk_at dksL_law_46 22 rfl rfl)
theorem dL_law_1248 : decode cL_law 1248 = .ok (.iload 4, 2) := dk_21 4 (dk_at dksL_law_47 0 rfl rfl)
theorem dL_law_1250 : decode cL_law 1250 = .ok (.iconst 1, 1) := dk_4 (dk_at dksL_law_47 2 rfl rfl)
theorem dL_law_1251 : decode cL_law 1251 = .ok (.iadd, 1) := dk_96 (dk_at dksL_law_47 3 rfl rfl)
theorem dL_law_1252 : decode cL_law 1252 = .ok (.iaload, 1) := dk_46 (dk_at dksL_law_47 4 rfl rfl)
theorem dL_law_1253 : decode cL_law 1253 = .ok (.aload_n 3, 1) := dk_45 (dk_at dksL_law_47 5 rfl rfl)
theorem dL_law_1254 : decode cL_law 1254 = .ok (.invokestatic 196, 3) := dk_184 0 196 (dk_at dksL_law_47 6 rfl rfl)
theorem dL_law_1257 : decode cL_law 1257 = .ok (.istore 5, 2) := dk_54 5 (dk_at dksL_law_47 9 rfl rfl)
theorem dL_law_1259 : decode cL_law 1259 = .ok (.aload_n 2, 1) := dk_44 (dk_at dksL_law_47 11 rfl rfl)
theorem dL_law_1260 : decode cL_law 1260 = .ok (.aload_n 0, 1) := dk_42 (dk_at dksL_law_47 12 rfl rfl)
theorem dL_law_1261 : decode cL_law 1261 = .ok (.iload 4, 2) := dk_21 4 (dk_at dksL_law_47 13 rfl rfl)
theorem dL_law_1263 : decode cL_law 1263 = .ok (.iconst 1, 1) := dk_4 (dk_at dksL_law_47 15 rfl rfl)
theorem dL_law_1264 : decode cL_law 1264 = .ok (.iadd, 1) := dk_96 (dk_at dksL_law_47 16 rfl rfl)
theorem dL_law_1265 : decode cL_law 1265 = .ok (.iaload, 1) := dk_46 (dk_at dksL_law_47 17 rfl rfl)
theorem dL_law_1266 : decode cL_law 1266 = .ok (.invokevirtual 198, 3) := dk_182 0 198 (dk_at dksL_law_47 18 rfl rfl)
theorem dL_law_1269 : decode cL_law 1269 = .ok (.istore 6, 2) := dk_54 6 (dk_at dksL_law_47 21 rfl rfl)
theorem dL_law_1271 : decode cL_law 1271 = .ok (.aload_n 2, 1) := dk_44 (dk_at dksL_law_47 23 rfl rfl)
theorem dL_law_1272 : decode cL_law 1272 = .ok (.invokevirtual 104, 3) := dk_182 0 104 (dk_at dksL_law_48 0 rfl rfl)
theorem dL_law_1275 : decode cL_law 1275 = .ok (.iload 5, 2) := dk_21 5 (dk_at dksL_law_48 3 rfl rfl)
theorem dL_law_1277 : decode cL_law 1277 = .ok (.if_icmp .eq 5, 3) := dk_159 0 5 (dk_at dksL_law_48 5 rfl rfl)
theorem dL_law_1280 : decode cL_law 1280 = .ok (.iconst 0, 1) := dk_3 (dk_at dksL_law_48 8 rfl rfl)
theorem dL_law_1281 : decode cL_law 1281 = .ok (.ireturn, 1) := dk_172 (dk_at dksL_law_48 9 rfl rfl)
theorem dL_law_1282 : decode cL_law 1282 = .ok (.iload 5, 2) := dk_21 5 (dk_at dksL_law_48 10 rfl rfl)
theorem dL_law_1284 : decode cL_law 1284 = .ok (.ifCond .ne 15, 3) := dk_154 0 15 (dk_at dksL_law_48 12 rfl rfl)
theorem dL_law_1287 : decode cL_law 1287 = .ok (.aload_n 3, 1) := dk_45 (dk_at dksL_law_48 15 rfl rfl)
theorem dL_law_1288 : decode cL_law 1288 = .ok (.iconst 0, 1) := dk_3 (dk_at dksL_law_48 16 rfl rfl)
theorem dL_law_1289 : decode cL_law 1289 = .ok (.laload, 1) := dk_47 (dk_at dksL_law_48 17 rfl rfl)
theorem dL_law_1290 : decode cL_law 1290 = .ok (.iload 6, 2) := dk_21 6 (dk_at dksL_law_48 18 rfl rfl)
theorem dL_law_1292 : decode cL_law 1292 = .ok (.i2l, 1) := dk_133 (dk_at dksL_law_48 20 rfl rfl)
theorem dL_law_1293 : decode cL_law 1293 = .ok (.lcmp, 1) := dk_148 (dk_at dksL_law_48 21 rfl rfl)
theorem dL_law_1294 : decode cL_law 1294 = .ok (.ifCond .eq 5, 3) := dk_153 0 5 (dk_at dksL_law_49 0 rfl rfl)
theorem dL_law_1297 : decode cL_law 1297 = .ok (.iconst 0, 1) := dk_3 (dk_at dksL_law_49 3 rfl rfl)
theorem dL_law_1298 : decode cL_law 1298 = .ok (.ireturn, 1) := dk_172 (dk_at dksL_law_49 4 rfl rfl)
theorem dL_law_1299 : decode cL_law 1299 = .ok (.goto 657, 3) := dk_167 2 145 (dk_at dksL_law_49 5 rfl rfl)
theorem dL_law_1302 : decode cL_law 1302 = .ok (.aload_n 1, 1) := dk_43 (dk_at dksL_law_49 8 rfl rfl)
theorem dL_law_1303 : decode cL_law 1303 = .ok (.aload_n 0, 1) := dk_42 (dk_at dksL_law_49 9 rfl rfl)
theorem dL_law_1304 : decode cL_law 1304 = .ok (.iload 4, 2) := dk_21 4 (dk_at dksL_law_49 10 rfl rfl)
theorem dL_law_1306 : decode cL_law 1306 = .ok (.iconst 1, 1) := dk_4 (dk_at dksL_law_49 12 rfl rfl)
theorem dL_law_1307 : decode cL_law 1307 = .ok (.iadd, 1) := dk_96 (dk_at dksL_law_49 13 rfl rfl)
theorem dL_law_1308 : decode cL_law 1308 = .ok (.iaload, 1) := dk_46 (dk_at dksL_law_49 14 rfl rfl)
theorem dL_law_1309 : decode cL_law 1309 = .ok (.aload_n 3, 1) := dk_45 (dk_at dksL_law_49 15 rfl rfl)
theorem dL_law_1310 : decode cL_law 1310 = .ok (.invokestatic 199, 3) := dk_184 0 199 (dk_at dksL_law_49 16 rfl rfl)
theorem dL_law_1313 : decode cL_law 1313 = .ok (.istore 5, 2) := dk_54 5 (dk_at dksL_law_49 19 rfl rfl)
theorem dL_law_1315 : decode cL_law 1315 = .ok (.aload_n 2, 1) := dk_44 (dk_at dksL_law_49 21 rfl rfl)
theorem dL_law_1316 : decode cL_law 1316 = .ok (.aload_n 0, 1) := dk_42 (dk_at dksL_law_49 22 rfl rfl)
theorem dL_law_1317 : decode cL_law 1317 = .ok (.iload 4, 2) := dk_21 4 (dk_at dksL_law_50 0 rfl rfl)
theorem dL_law_1319 : decode cL_law 1319 = .ok (.iconst 1, 1) := dk_4 (dk_at dksL_law_50 2 rfl rfl)
theorem dL_law_1320 : decode cL_law 1320 = .ok (.iadd, 1) := dk_96 (dk_at dksL_law_50 3 rfl rfl)
theorem dL_law_1321 : decode cL_law 1321 = .ok (.iaload, 1) := dk_46 (dk_at dksL_law_50 4 rfl rfl)
theorem dL_law_1322 : decode cL_law 1322 = .ok (.invokevirtual 201, 3) := dk_182 0 201 (dk_at dksL_law_50 5 rfl rfl)
theorem dL_law_1325 : decode cL_law 1325 = .ok (.istore 6, 2) := dk_54 6 (dk_at dksL_law_50 8 rfl rfl)
theorem dL_law_1327 : decode cL_law 1327 = .ok (.aload_n 2, 1) := dk_44 (dk_at dksL_law_50 10 rfl rfl)
theorem dL_law_1328 : decode cL_law 1328 = .ok (.invokevirtual 104, 3) := dk_182 0 104 (dk_at dksL_law_50 11 rfl rfl)
theorem dL_law_1331 : decode cL_law 1331 = .ok (.iload 5, 2) := dk_21 5 (dk_at dksL_law_50 14 rfl rfl)
theorem dL_law_1333 : decode cL_law 1333 = .ok (.if_icmp .eq 5, 3) := dk_159 0 5 (dk_at dksL_law_50 16 rfl rfl)
theorem dL_law_1336 : decode cL_law 1336 = .ok (.iconst 0, 1) := dk_3 (dk_at dksL_law_50 19 rfl rfl)
theorem dL_law_1337 : decode cL_law 1337 = .ok (.ireturn, 1) := dk_172 (dk_at dksL_law_50 20 rfl rfl)
theorem dL_law_1338 : decode cL_law 1338 = .ok (.iload 5, 2) := dk_21 5 (dk_at dksL_law_50 21 rfl rfl)
theorem dL_law_1340 : decode cL_law 1340 = .ok (.ifCond .ne 15, 3) := dk_154 0 15 (dk_at dksL_law_51 0 rfl rfl)
theorem dL_law_1343 : decode cL_law 1343 = .ok (.aload_n 3, 1) := dk_45 (dk_at dksL_law_51 3 rfl rfl)
theorem dL_law_1344 : decode cL_law 1344 = .ok (.iconst 0, 1) := dk_3 (dk_at dksL_law_51 4 rfl rfl)
theorem dL_law_1345 : decode cL_law 1345 = .ok (.laload, 1) := dk_47 (dk_at dksL_law_51 5 rfl rfl)
theorem dL_law_1346 : decode cL_law 1346 = .ok (.iload 6, 2) := dk_21 6 (dk_at dksL_law_51 6 rfl rfl)
theorem dL_law_1348 : decode cL_law 1348 = .ok (.i2l, 1) := dk_133 (dk_at dksL_law_51 8 rfl rfl)
theorem dL_law_1349 : decode cL_law 1349 = .ok (.lcmp, 1) := dk_148 (dk_at dksL_law_51 9 rfl rfl)
theorem dL_law_1350 : decode cL_law 1350 = .ok (.ifCond .eq 5, 3) := dk_153 0 5 (dk_at dksL_law_51 10 rfl rfl)
theorem dL_law_1353 : decode cL_law 1353 = .ok (.iconst 0, 1) := dk_3 (dk_at dksL_law_51 13 rfl rfl)
theorem dL_law_1354 : decode cL_law 1354 = .ok (.ireturn, 1) := dk_172 (dk_at dksL_law_51 14 rfl rfl)
theorem dL_law_1355 : decode cL_law 1355 = .ok (.goto 601, 3) := dk_167 2 89 (dk_at dksL_law_51 15 rfl rfl)
theorem dL_law_1358 : decode cL_law 1358 = .ok (.aload_n 1, 1) := dk_43 (dk_at dksL_law_51 18 rfl rfl)
theorem dL_law_1359 : decode cL_law 1359 = .ok (.aload_n 0, 1) := dk_42 (dk_at dksL_law_51 19 rfl rfl)
theorem dL_law_1360 : decode cL_law 1360 = .ok (.iload 4, 2) := dk_21 4 (dk_at dksL_law_51 20 rfl rfl)
theorem dL_law_1362 : decode cL_law 1362 = .ok (.iconst 1, 1) := dk_4 (dk_at dksL_law_51 22 rfl rfl)
theorem dL_law_1363 : decode cL_law 1363 = .ok (.iadd, 1) := dk_96 (dk_at dksL_law_51 23 rfl rfl)
theorem dL_law_1364 : decode cL_law 1364 = .ok (.iaload, 1) := dk_46 (dk_at dksL_law_52 0 rfl rfl)
theorem dL_law_1365 : decode cL_law 1365 = .ok (.aload_n 0, 1) := dk_42 (dk_at dksL_law_52 1 rfl rfl)
theorem dL_law_1366 : decode cL_law 1366 = .ok (.iload 4, 2) := dk_21 4 (dk_at dksL_law_52 2 rfl rfl)
theorem dL_law_1368 : decode cL_law 1368 = .ok (.iconst 2, 1) := dk_5 (dk_at dksL_law_52 4 rfl rfl)
theorem dL_law_1369 : decode cL_law 1369 = .ok (.iadd, 1) := dk_96 (dk_at dksL_law_52 5 rfl rfl)
theorem dL_law_1370 : decode cL_law 1370 = .ok (.iaload, 1) := dk_46 (dk_at dksL_law_52 6 rfl rfl)
theorem dL_law_1371 : decode cL_law 1371 = .ok (.aload_n 3, 1) := dk_45 (dk_at dksL_law_52 7 rfl rfl)
theorem dL_law_1372 : decode cL_law 1372 = .ok (.invokestatic 202, 3) := dk_184 0 202 (dk_at dksL_law_52 8 rfl rfl)
theorem dL_law_1375 : decode cL_law 1375 = .ok (.istore 5, 2) := dk_54 5 (dk_at dksL_law_52 11 rfl rfl)
theorem dL_law_1377 : decode cL_law 1377 = .ok (.aload_n 2, 1) := dk_44 (dk_at dksL_law_52 13 rfl rfl)
theorem dL_law_1378 : decode cL_law 1378 = .ok (.aload_n 0, 1) := dk_42 (dk_at dksL_law_52 14 rfl rfl)
theorem dL_law_1379 : decode cL_law 1379 = .ok (.iload 4, 2) := dk_21 4 (dk_at dksL_law_52 15 rfl rfl)
theorem dL_law_1381 : decode cL_law 1381 = .ok (.iconst 1, 1) := dk_4 (dk_at dksL_law_52 17 rfl rfl)
theorem dL_law_1382 : decode cL_law 1382 = .ok (.iadd, 1) := dk_96 (dk_at dksL_law_52 18 rfl rfl)
theorem dL_law_1383 : decode cL_law 1383 = .ok (.iaload, 1) := dk_46 (dk_at dksL_law_52 19 rfl rfl)
theorem dL_law_1384 : decode cL_law 1384 = .ok (.aload_n 0, 1) := dk_42 (dk_at dksL_law_52 20 rfl rfl)
theorem dL_law_1385 : decode cL_law 1385 = .ok (.iload 4, 2) := dk_21 4 (dk_at dksL_law_52 21 rfl rfl)
theorem dL_law_1387 : decode cL_law 1387 = .ok (.iconst 2, 1) := dk_5 (dk_at dksL_law_52 23 rfl rfl)
theorem dL_law_1388 : decode cL_law 1388 = .ok (.iadd, 1) := dk_96 (dk_at dksL_law_53 0 rfl rfl)
theorem dL_law_1389 : decode cL_law 1389 = .ok (.iaload, 1) := dk_46 (dk_at dksL_law_53 1 rfl rfl)
theorem dL_law_1390 : decode cL_law 1390 = .ok (.invokevirtual 205, 3) := dk_182 0 205 (dk_at dksL_law_53 2 rfl rfl)
theorem dL_law_1393 : decode cL_law 1393 = .ok (.istore 6, 2) := dk_54 6 (dk_at dksL_law_53 5 rfl rfl)
theorem dL_law_1395 : decode cL_law 1395 = .ok (.aload_n 2, 1) := dk_44 (dk_at dksL_law_53 7 rfl rfl)
theorem dL_law_1396 : decode cL_law 1396 = .ok (.invokevirtual 104, 3) := dk_182 0 104 (dk_at dksL_law_53 8 rfl rfl)
theorem dL_law_1399 : decode cL_law 1399 = .ok (.iload 5, 2) := dk_21 5 (dk_at dksL_law_53 11 rfl rfl)
theorem dL_law_1401 : decode cL_law 1401 = .ok (.if_icmp .eq 5, 3) := dk_159 0 5 (dk_at dksL_law_53 13 rfl rfl)
theorem dL_law_1404 : decode cL_law 1404 = .ok (.iconst 0, 1) := dk_3 (dk_at dksL_law_53 16 rfl rfl)
theorem dL_law_1405 : decode cL_law 1405 = .ok (.ireturn, 1) := dk_172 (dk_at dksL_law_53 17 rfl rfl)
theorem dL_law_1406 : decode cL_law 1406 = .ok (.iload 5, 2) := dk_21 5 (dk_at dksL_law_53 18 rfl rfl)
theorem dL_law_1408 : decode cL_law 1408 = .ok (.ifCond .ne 22, 3) := dk_154 0 22 (dk_at dksL_law_53 20 rfl rfl)
theorem dL_law_1411 : decode cL_law 1411 = .ok (.aload_n 3, 1) := dk_45 (dk_at dksL_law_53 23 rfl rfl)
theorem dL_law_1412 : decode cL_law 1412 = .ok (.iconst 0, 1) := dk_3 (dk_at dksL_law_54 0 rfl rfl)
theorem dL_law_1413 : decode cL_law 1413 = .ok (.laload, 1) := dk_47 (dk_at dksL_law_54 1 rfl rfl)
theorem dL_law_1414 : decode cL_law 1414 = .ok (.iload 6, 2) := dk_21 6 (dk_at dksL_law_54 2 rfl rfl)
theorem dL_law_1416 : decode cL_law 1416 = .ok (.ifCond .eq 7, 3) := dk_153 0 7 (dk_at dksL_law_54 4 rfl rfl)
theorem dL_law_1419 : decode cL_law 1419 = .ok (.lconst 1, 1) := dk_10 (dk_at dksL_law_54 7 rfl rfl)
theorem dL_law_1420 : decode cL_law 1420 = .ok (.goto 4, 3) := dk_167 0 4 (dk_at dksL_law_54 8 rfl rfl)
theorem dL_law_1423 : decode cL_law 1423 = .ok (.lconst 0, 1) := dk_9 (dk_at dksL_law_54 11 rfl rfl)
theorem dL_law_1424 : decode cL_law 1424 = .ok (.lcmp, 1) := dk_148 (dk_at dksL_law_54 12 rfl rfl)
theorem dL_law_1425 : decode cL_law 1425 = .ok (.ifCond .eq 5, 3) := dk_153 0 5 (dk_at dksL_law_54 13 rfl rfl)
theorem dL_law_1428 : decode cL_law 1428 = .ok (.iconst 0, 1) := dk_3 (dk_at dksL_law_54 16 rfl rfl)
theorem dL_law_1429 : decode cL_law 1429 = .ok (.ireturn, 1) := dk_172 (dk_at dksL_law_54 17 rfl rfl)
theorem dL_law_1430 : decode cL_law 1430 = .ok (.goto 526, 3) := dk_167 2 14 (dk_at dksL_law_54 18 rfl rfl)
theorem dL_law_1433 : decode cL_law 1433 = .ok (.aload_n 1, 1) := dk_43 (dk_at dksL_law_54 21 rfl rfl)
theorem dL_law_1434 : decode cL_law 1434 = .ok (.aload_n 0, 1) := dk_42 (dk_at dksL_law_54 22 rfl rfl)
theorem dL_law_1435 : decode cL_law 1435 = .ok (.iload 4, 2) := dk_21 4 (dk_at dksL_law_55 0 rfl rfl)
theorem dL_law_1437 : decode cL_law 1437 = .ok (.iconst 1, 1) := dk_4 (dk_at dksL_law_55 2 rfl rfl)
theorem dL_law_1438 : decode cL_law 1438 = .ok (.iadd, 1) := dk_96 (dk_at dksL_law_55 3 rfl rfl)
theorem dL_law_1439 : decode cL_law 1439 = .ok (.iaload, 1) := dk_46 (dk_at dksL_law_55 4 rfl rfl)
theorem dL_law_1440 : decode cL_law 1440 = .ok (.aload_n 3, 1) := dk_45 (dk_at dksL_law_55 5 rfl rfl)
theorem dL_law_1441 : decode cL_law 1441 = .ok (.invokestatic 206, 3) := dk_184 0 206 (dk_at dksL_law_55 6 rfl rfl)
theorem dL_law_1444 : decode cL_law 1444 = .ok (.istore 5, 2) := dk_54 5 (dk_at dksL_law_55 9 rfl rfl)
theorem dL_law_1446 : decode cL_law 1446 = .ok (.aload_n 2, 1) := dk_44 (dk_at dksL_law_55 11 rfl rfl)
theorem dL_law_1447 : decode cL_law 1447 = .ok (.aload_n 0, 1) := dk_42 (dk_at dksL_law_55 12 rfl rfl)
theorem dL_law_1448 : decode cL_law 1448 = .ok (.iload 4, 2) := dk_21 4 (dk_at dksL_law_55 13 rfl rfl)
theorem dL_law_1450 : decode cL_law 1450 = .ok (.iconst 1, 1) := dk_4 (dk_at dksL_law_55 15 rfl rfl)
theorem dL_law_1451 : decode cL_law 1451 = .ok (.iadd, 1) := dk_96 (dk_at dksL_law_55 16 rfl rfl)
theorem dL_law_1452 : decode cL_law 1452 = .ok (.iaload, 1) := dk_46 (dk_at dksL_law_55 17 rfl rfl)
theorem dL_law_1453 : decode cL_law 1453 = .ok (.invokevirtual 208, 3) := dk_182 0 208 (dk_at dksL_law_55 18 rfl rfl)
theorem dL_law_1456 : decode cL_law 1456 = .ok (.istore 6, 2) := dk_54 6 (dk_at dksL_law_55 21 rfl rfl)
theorem dL_law_1458 : decode cL_law 1458 = .ok (.aload_n 2, 1) := dk_44 (dk_at dksL_law_55 23 rfl rfl)
theorem dL_law_1459 : decode cL_law 1459 = .ok (.invokevirtual 104, 3) := dk_182 0 104 (dk_at dksL_law_56 0 rfl rfl)
theorem dL_law_1462 : decode cL_law 1462 = .ok (.iload 5, 2) := dk_21 5 (dk_at dksL_law_56 3 rfl rfl)
theorem dL_law_1464 : decode cL_law 1464 = .ok (.if_icmp .eq 5, 3) := dk_159 0 5 (dk_at dksL_law_56 5 rfl rfl)
theorem dL_law_1467 : decode cL_law 1467 = .ok (.iconst 0, 1) := dk_3 (dk_at dksL_law_56 8 rfl rfl)
theorem dL_law_1468 : decode cL_law 1468 = .ok (.ireturn, 1) := dk_172 (dk_at dksL_law_56 9 rfl rfl)
theorem dL_law_1469 : decode cL_law 1469 = .ok (.iload 5, 2) := dk_21 5 (dk_at dksL_law_56 10 rfl rfl)
theorem dL_law_1471 : decode cL_law 1471 = .ok (.ifCond .ne 22, 3) := dk_154 0 22 (dk_at dksL_law_56 12 rfl rfl)
theorem dL_law_1474 : decode cL_law 1474 = .ok (.aload_n 3, 1) := dk_45 (dk_at dksL_law_56 15 rfl rfl)
theorem dL_law_1475 : decode cL_law 1475 = .ok (.iconst 0, 1) := dk_3 (dk_at dksL_law_56 16 rfl rfl)
theorem dL_law_1476 : decode cL_law 1476 = .ok (.laload, 1) := dk_47 (dk_at dksL_law_56 17 rfl rfl)
theorem dL_law_1477 : decode cL_law 1477 = .ok (.iload 6, 2) := dk_21 6 (dk_at dksL_law_56 18 rfl rfl)
theorem dL_law_1479 : decode cL_law 1479 = .ok (.ifCond .eq 7, 3) := dk_153 0 7 (dk_at dksL_law_56 20 rfl rfl)
theorem dL_law_1482 : decode cL_law 1482 = .ok (.lconst 1, 1) := dk_10 (dk_at dksL_law_56 23 rfl rfl)
theorem dL_law_1483 : decode cL_law 1483 = .ok (.goto 4, 3) := dk_167 0 4 (dk_at dksL_law_57 0 rfl rfl)
theorem dL_law_1486 : decode cL_law 1486 = .ok (.lconst 0, 1) := dk_9 (dk_at dksL_law_57 3 rfl rfl)
theorem dL_law_1487 : decode cL_law 1487 = .ok (.lcmp, 1) := dk_148 (dk_at dksL_law_57 4 rfl rfl)
theorem dL_law_1488 : decode cL_law 1488 = .ok (.ifCond .eq 5, 3) := dk_153 0 5 (dk_at dksL_law_57 5 rfl rfl)
theorem dL_law_1491 : decode cL_law 1491 = .ok (.iconst 0, 1) := dk_3 (dk_at dksL_law_57 8 rfl rfl)
theorem dL_law_1492 : decode cL_law 1492 = .ok (.ireturn, 1) := dk_172 (dk_at dksL_law_57 9 rfl rfl)
theorem dL_law_1493 : decode cL_law 1493 = .ok (.goto 463, 3) := dk_167 1 207 (dk_at dksL_law_57 10 rfl rfl)
theorem dL_law_1496 : decode cL_law 1496 = .ok (.aload_n 1, 1) := dk_43 (dk_at dksL_law_57 13 rfl rfl)
theorem dL_law_1497 : decode cL_law 1497 = .ok (.aload_n 0, 1) := dk_42 (dk_at dksL_law_57 14 rfl rfl)
theorem dL_law_1498 : decode cL_law 1498 = .ok (.iload 4, 2) := dk_21 4 (dk_at dksL_law_57 15 rfl rfl)
theorem dL_law_1500 : decode cL_law 1500 = .ok (.iconst 1, 1) := dk_4 (dk_at dksL_law_57 17 rfl rfl)
theorem dL_law_1501 : decode cL_law 1501 = .ok (.iadd, 1) := dk_96 (dk_at dksL_law_57 18 rfl rfl)
theorem dL_law_1502 : decode cL_law 1502 = .ok (.iaload, 1) := dk_46 (dk_at dksL_law_57 19 rfl rfl)
theorem dL_law_1503 : decode cL_law 1503 = .ok (.aload_n 3, 1) := dk_45 (dk_at dksL_law_57 20 rfl rfl)
theorem dL_law_1504 : decode cL_law 1504 = .ok (.invokestatic 209, 3) := dk_184 0 209 (dk_at dksL_law_57 21 rfl rfl)
theorem dL_law_1507 : decode cL_law 1507 = .ok (.istore 5, 2) := dk_54 5 (dk_at dksL_law_58 0 rfl rfl)
theorem dL_law_1509 : decode cL_law 1509 = .ok (.aload_n 2, 1) := dk_44 (dk_at dksL_law_58 2 rfl rfl)
theorem dL_law_1510 : decode cL_law 1510 = .ok (.aload_n 0, 1) := dk_42 (dk_at dksL_law_58 3 rfl rfl)
theorem dL_law_1511 : decode cL_law 1511 = .ok (.iload 4, 2) := dk_21 4 (dk_at dksL_law_58 4 rfl rfl)
theorem dL_law_1513 : decode cL_law 1513 = .ok (.iconst 1, 1) := dk_4 (dk_at dksL_law_58 6 rfl rfl)
theorem dL_law_1514 : decode cL_law 1514 = .ok (.iadd, 1) := dk_96 (dk_at dksL_law_58 7 rfl rfl)
theorem dL_law_1515 : decode cL_law 1515 = .ok (.iaload, 1) := dk_46 (dk_at dksL_law_58 8 rfl rfl)
theorem dL_law_1516 : decode cL_law 1516 = .ok (.invokevirtual 211, 3) := dk_182 0 211 (dk_at dksL_law_58 9 rfl rfl)
theorem dL_law_1519 : decode cL_law 1519 = .ok (.istore 6, 2) := dk_54 6 (dk_at dksL_law_58 12 rfl rfl)
theorem dL_law_1521 : decode cL_law 1521 = .ok (.aload_n 2, 1) := dk_44 (dk_at dksL_law_58 14 rfl rfl)
theorem dL_law_1522 : decode cL_law 1522 = .ok (.invokevirtual 104, 3) := dk_182 0 104 (dk_at dksL_law_58 15 rfl rfl)
theorem dL_law_1525 : decode cL_law 1525 = .ok (.iload 5, 2) := dk_21 5 (dk_at dksL_law_58 18 rfl rfl)
theorem dL_law_1527 : decode cL_law 1527 = .ok (.if_icmp .eq 5, 3) := dk_159 0 5 (dk_at dksL_law_58 20 rfl rfl)
theorem dL_law_1530 : decode cL_law 1530 = .ok (.iconst 0, 1) := dk_3 (dk_at dksL_law_58 23 rfl rfl)
theorem dL_law_1531 : decode cL_law 1531 = .ok (.ireturn, 1) := dk_172 (dk_at dksL_law_59 0 rfl rfl)
theorem dL_law_1532 : decode cL_law 1532 = .ok (.iload 5, 2) := dk_21 5 (dk_at dksL_law_59 1 rfl rfl)
theorem dL_law_1534 : decode cL_law 1534 = .ok (.ifCond .ne 15, 3) := dk_154 0 15 (dk_at dksL_law_59 3 rfl rfl)
theorem dL_law_1537 : decode cL_law 1537 = .ok (.aload_n 3, 1) := dk_45 (dk_at dksL_law_59 6 rfl rfl)
theorem dL_law_1538 : decode cL_law 1538 = .ok (.iconst 0, 1) := dk_3 (dk_at dksL_law_59 7 rfl rfl)
theorem dL_law_1539 : decode cL_law 1539 = .ok (.laload, 1) := dk_47 (dk_at dksL_law_59 8 rfl rfl)
theorem dL_law_1540 : decode cL_law 1540 = .ok (.iload 6, 2) := dk_21 6 (dk_at dksL_law_59 9 rfl rfl)
theorem dL_law_1542 : decode cL_law 1542 = .ok (.i2l, 1) := dk_133 (dk_at dksL_law_59 11 rfl rfl)
theorem dL_law_1543 : decode cL_law 1543 = .ok (.lcmp, 1) := dk_148 (dk_at dksL_law_59 12 rfl rfl)
theorem dL_law_1544 : decode cL_law 1544 = .ok (.ifCond .eq 5, 3) := dk_153 0 5 (dk_at dksL_law_59 13 rfl rfl)
theorem dL_law_1547 : decode cL_law 1547 = .ok (.iconst 0, 1) := dk_3 (dk_at dksL_law_59 16 rfl rfl)
theorem dL_law_1548 : decode cL_law 1548 = .ok (.ireturn, 1) := dk_172 (dk_at dksL_law_59 17 rfl rfl)
theorem dL_law_1549 : decode cL_law 1549 = .ok (.goto 407, 3) := dk_167 1 151 (dk_at dksL_law_59 18 rfl rfl)
theorem dL_law_1552 : decode cL_law 1552 = .ok (.aload_n 1, 1) := dk_43 (dk_at dksL_law_59 21 rfl rfl)
theorem dL_law_1553 : decode cL_law 1553 = .ok (.aload_n 0, 1) := dk_42 (dk_at dksL_law_59 22 rfl rfl)
theorem dL_law_1554 : decode cL_law 1554 = .ok (.iload 4, 2) := dk_21 4 (dk_at dksL_law_60 0 rfl rfl)
theorem dL_law_1556 : decode cL_law 1556 = .ok (.iconst 1, 1) := dk_4 (dk_at dksL_law_60 2 rfl rfl)
theorem dL_law_1557 : decode cL_law 1557 = .ok (.iadd, 1) := dk_96 (dk_at dksL_law_60 3 rfl rfl)
theorem dL_law_1558 : decode cL_law 1558 = .ok (.iaload, 1) := dk_46 (dk_at dksL_law_60 4 rfl rfl)
theorem dL_law_1559 : decode cL_law 1559 = .ok (.aload_n 3, 1) := dk_45 (dk_at dksL_law_60 5 rfl rfl)
theorem dL_law_1560 : decode cL_law 1560 = .ok (.invokestatic 212, 3) := dk_184 0 212 (dk_at dksL_law_60 6 rfl rfl)
theorem dL_law_1563 : decode cL_law 1563 = .ok (.istore 5, 2) := dk_54 5 (dk_at dksL_law_60 9 rfl rfl)
theorem dL_law_1565 : decode cL_law 1565 = .ok (.aload_n 2, 1) := dk_44 (dk_at dksL_law_60 11 rfl rfl)
theorem dL_law_1566 : decode cL_law 1566 = .ok (.aload_n 0, 1) := dk_42 (dk_at dksL_law_60 12 rfl rfl)
theorem dL_law_1567 : decode cL_law 1567 = .ok (.iload 4, 2) := dk_21 4 (dk_at dksL_law_60 13 rfl rfl)
theorem dL_law_1569 : decode cL_law 1569 = .ok (.iconst 1, 1) := dk_4 (dk_at dksL_law_60 15 rfl rfl)
theorem dL_law_1570 : decode cL_law 1570 = .ok (.iadd, 1) := dk_96 (dk_at dksL_law_60 16 rfl rfl)
theorem dL_law_1571 : decode cL_law 1571 = .ok (.iaload, 1) := dk_46 (dk_at dksL_law_60 17 rfl rfl)
theorem dL_law_1572 : decode cL_law 1572 = .ok (.invokevirtual 214, 3) := dk_182 0 214 (dk_at dksL_law_60 18 rfl rfl)
theorem dL_law_1575 : decode cL_law 1575 = .ok (.istore 6, 2) := dk_54 6 (dk_at dksL_law_60 21 rfl rfl)
theorem dL_law_1577 : decode cL_law 1577 = .ok (.aload_n 2, 1) := dk_44 (dk_at dksL_law_60 23 rfl rfl)
theorem dL_law_1578 : decode cL_law 1578 = .ok (.invokevirtual 104, 3) := dk_182 0 104 (dk_at dksL_law_61 0 rfl rfl)
theorem dL_law_1581 : decode cL_law 1581 = .ok (.iload 5, 2) := dk_21 5 (dk_at dksL_law_61 3 rfl rfl)
theorem dL_law_1583 : decode cL_law 1583 = .ok (.if_icmp .eq 5, 3) := dk_159 0 5 (dk_at dksL_law_61 5 rfl rfl)
theorem dL_law_1586 : decode cL_law 1586 = .ok (.iconst 0, 1) := dk_3 (dk_at dksL_law_61 8 rfl rfl)
theorem dL_law_1587 : decode cL_law 1587 = .ok (.ireturn, 1) := dk_172 (dk_at dksL_law_61 9 rfl rfl)
theorem dL_law_1588 : decode cL_law 1588 = .ok (.iload 5, 2) := dk_21 5 (dk_at dksL_law_61 10 rfl rfl)
theorem dL_law_1590 : decode cL_law 1590 = .ok (.ifCond .ne 15, 3) := dk_154 0 15 (dk_at dksL_law_61 12 rfl rfl)
theorem dL_law_1593 : decode cL_law 1593 = .ok (.aload_n 3, 1) := dk_45 (dk_at dksL_law_61 15 rfl rfl)
theorem dL_law_1594 : decode cL_law 1594 = .ok (.iconst 0, 1) := dk_3 (dk_at dksL_law_61 16 rfl rfl)
theorem dL_law_1595 : decode cL_law 1595 = .ok (.laload, 1) := dk_47 (dk_at dksL_law_61 17 rfl rfl)
theorem dL_law_1596 : decode cL_law 1596 = .ok (.iload 6, 2) := dk_21 6 (dk_at dksL_law_61 18 rfl rfl)
theorem dL_law_1598 : decode cL_law 1598 = .ok (.i2l, 1) := dk_133 (dk_at dksL_law_61 20 rfl rfl)
theorem dL_law_1599 : decode cL_law 1599 = .ok (.lcmp, 1) := dk_148 (dk_at dksL_law_61 21 rfl rfl)
theorem dL_law_1600 : decode cL_law 1600 = .ok (.ifCond .eq 5, 3) := dk_153 0 5 (dk_at dksL_law_62 0 rfl rfl)
theorem dL_law_1603 : decode cL_law 1603 = .ok (.iconst 0, 1) := dk_3 (dk_at dksL_law_62 3 rfl rfl)
theorem dL_law_1604 : decode cL_law 1604 = .ok (.ireturn, 1) := dk_172 (dk_at dksL_law_62 4 rfl rfl)
theorem dL_law_1605 : decode cL_law 1605 = .ok (.goto 351, 3) := dk_167 1 95 (dk_at dksL_law_62 5 rfl rfl)
theorem dL_law_1608 : decode cL_law 1608 = .ok (.aload_n 1, 1) := dk_43 (dk_at dksL_law_62 8 rfl rfl)
theorem dL_law_1609 : decode cL_law 1609 = .ok (.aload_n 0, 1) := dk_42 (dk_at dksL_law_62 9 rfl rfl)
theorem dL_law_1610 : decode cL_law 1610 = .ok (.iload 4, 2) := dk_21 4 (dk_at dksL_law_62 10 rfl rfl)
theorem dL_law_1612 : decode cL_law 1612 = .ok (.iconst 1, 1) := dk_4 (dk_at dksL_law_62 12 rfl rfl)
theorem dL_law_1613 : decode cL_law 1613 = .ok (.iadd, 1) := dk_96 (dk_at dksL_law_62 13 rfl rfl)
theorem dL_law_1614 : decode cL_law 1614 = .ok (.iaload, 1) := dk_46 (dk_at dksL_law_62 14 rfl rfl)
theorem dL_law_1615 : decode cL_law 1615 = .ok (.aload_n 3, 1) := dk_45 (dk_at dksL_law_62 15 rfl rfl)
theorem dL_law_1616 : decode cL_law 1616 = .ok (.invokestatic 215, 3) := dk_184 0 215 (dk_at dksL_law_62 16 rfl rfl)
theorem dL_law_1619 : decode cL_law 1619 = .ok (.istore 5, 2) := dk_54 5 (dk_at dksL_law_62 19 rfl rfl)
theorem dL_law_1621 : decode cL_law 1621 = .ok (.aload_n 2, 1) := dk_44 (dk_at dksL_law_62 21 rfl rfl)
theorem dL_law_1622 : decode cL_law 1622 = .ok (.aload_n 0, 1) := dk_42 (dk_at dksL_law_62 22 rfl rfl)
theorem dL_law_1623 : decode cL_law 1623 = .ok (.iload 4, 2) := dk_21 4 (dk_at dksL_law_63 0 rfl rfl)
theorem dL_law_1625 : decode cL_law 1625 = .ok (.iconst 1, 1) := dk_4 (dk_at dksL_law_63 2 rfl rfl)
theorem dL_law_1626 : decode cL_law 1626 = .ok (.iadd, 1) := dk_96 (dk_at dksL_law_63 3 rfl rfl)
theorem dL_law_1627 : decode cL_law 1627 = .ok (.iaload, 1) := dk_46 (dk_at dksL_law_63 4 rfl rfl)
theorem dL_law_1628 : decode cL_law 1628 = .ok (.invokevirtual 217, 3) := dk_182 0 217 (dk_at dksL_law_63 5 rfl rfl)
theorem dL_law_1631 : decode cL_law 1631 = .ok (.istore 6, 2) := dk_54 6 (dk_at dksL_law_63 8 rfl rfl)
theorem dL_law_1633 : decode cL_law 1633 = .ok (.aload_n 2, 1) := dk_44 (dk_at dksL_law_63 10 rfl rfl)
theorem dL_law_1634 : decode cL_law 1634 = .ok (.invokevirtual 104, 3) := dk_182 0 104 (dk_at dksL_law_63 11 rfl rfl)
theorem dL_law_1637 : decode cL_law 1637 = .ok (.iload 5, 2) := dk_21 5 (dk_at dksL_law_63 14 rfl rfl)
theorem dL_law_1639 : decode cL_law 1639 = .ok (.if_icmp .eq 5, 3) := dk_159 0 5 (dk_at dksL_law_63 16 rfl rfl)
theorem dL_law_1642 : decode cL_law 1642 = .ok (.iconst 0, 1) := dk_3 (dk_at dksL_law_63 19 rfl rfl)
theorem dL_law_1643 : decode cL_law 1643 = .ok (.ireturn, 1) := dk_172 (dk_at dksL_law_63 20 rfl rfl)
theorem dL_law_1644 : decode cL_law 1644 = .ok (.iload 5, 2) := dk_21 5 (dk_at dksL_law_63 21 rfl rfl)
theorem dL_law_1646 : decode cL_law 1646 = .ok (.ifCond .ne 15, 3) := dk_154 0 15 (dk_at dksL_law_64 0 rfl rfl)
theorem dL_law_1649 : decode cL_law 1649 = .ok (.aload_n 3, 1) := dk_45 (dk_at dksL_law_64 3 rfl rfl)
theorem dL_law_1650 : decode cL_law 1650 = .ok (.iconst 0, 1) := dk_3 (dk_at dksL_law_64 4 rfl rfl)
theorem dL_law_1651 : decode cL_law 1651 = .ok (.laload, 1) := dk_47 (dk_at dksL_law_64 5 rfl rfl)
theorem dL_law_1652 : decode cL_law 1652 = .ok (.iload 6, 2) := dk_21 6 (dk_at dksL_law_64 6 rfl rfl)
theorem dL_law_1654 : decode cL_law 1654 = .ok (.i2l, 1) := dk_133 (dk_at dksL_law_64 8 rfl rfl)
theorem dL_law_1655 : decode cL_law 1655 = .ok (.lcmp, 1) := dk_148 (dk_at dksL_law_64 9 rfl rfl)
theorem dL_law_1656 : decode cL_law 1656 = .ok (.ifCond .eq 5, 3) := dk_153 0 5 (dk_at dksL_law_64 10 rfl rfl)
theorem dL_law_1659 : decode cL_law 1659 = .ok (.iconst 0, 1) := dk_3 (dk_at dksL_law_64 13 rfl rfl)
theorem dL_law_1660 : decode cL_law 1660 = .ok (.ireturn, 1) := dk_172 (dk_at dksL_law_64 14 rfl rfl)
theorem dL_law_1661 : decode cL_law 1661 = .ok (.goto 295, 3) := dk_167 1 39 (dk_at dksL_law_64 15 rfl rfl)
theorem dL_law_1664 : decode cL_law 1664 = .ok (.aload_n 1, 1) := dk_43 (dk_at dksL_law_64 18 rfl rfl)
theorem dL_law_1665 : decode cL_law 1665 = .ok (.aload_n 0, 1) := dk_42 (dk_at dksL_law_64 19 rfl rfl)
theorem dL_law_1666 : decode cL_law 1666 = .ok (.iload 4, 2) := dk_21 4 (dk_at dksL_law_64 20 rfl rfl)
theorem dL_law_1668 : decode cL_law 1668 = .ok (.iconst 1, 1) := dk_4 (dk_at dksL_law_64 22 rfl rfl)
theorem dL_law_1669 : decode cL_law 1669 = .ok (.iadd, 1) := dk_96 (dk_at dksL_law_64 23 rfl rfl)
theorem dL_law_1670 : decode cL_law 1670 = .ok (.iaload, 1) := dk_46 (dk_at dksL_law_65 0 rfl rfl)
theorem dL_law_1671 : decode cL_law 1671 = .ok (.aload_n 3, 1) := dk_45 (dk_at dksL_law_65 1 rfl rfl)
theorem dL_law_1672 : decode cL_law 1672 = .ok (.invokestatic 218, 3) := dk_184 0 218 (dk_at dksL_law_65 2 rfl rfl)
theorem dL_law_1675 : decode cL_law 1675 = .ok (.istore 5, 2) := dk_54 5 (dk_at dksL_law_65 5 rfl rfl)
theorem dL_law_1677 : decode cL_law 1677 = .ok (.aload_n 2, 1) := dk_44 (dk_at dksL_law_65 7 rfl rfl)
theorem dL_law_1678 : decode cL_law 1678 = .ok (.aload_n 0, 1) := dk_42 (dk_at dksL_law_65 8 rfl rfl)
theorem dL_law_1679 : decode cL_law 1679 = .ok (.iload 4, 2) := dk_21 4 (dk_at dksL_law_65 9 rfl rfl)
theorem dL_law_1681 : decode cL_law 1681 = .ok (.iconst 1, 1) := dk_4 (dk_at dksL_law_65 11 rfl rfl)
theorem dL_law_1682 : decode cL_law 1682 = .ok (.iadd, 1) := dk_96 (dk_at dksL_law_65 12 rfl rfl)
theorem dL_law_1683 : decode cL_law 1683 = .ok (.iaload, 1) := dk_46 (dk_at dksL_law_65 13 rfl rfl)
theorem dL_law_1684 : decode cL_law 1684 = .ok (.invokevirtual 220, 3) := dk_182 0 220 (dk_at dksL_law_65 14 rfl rfl)
theorem dL_law_1687 : decode cL_law 1687 = .ok (.istore 6, 2) := dk_54 6 (dk_at dksL_law_65 17 rfl rfl)
theorem dL_law_1689 : decode cL_law 1689 = .ok (.aload_n 2, 1) := dk_44 (dk_at dksL_law_65 19 rfl rfl)
theorem dL_law_1690 : decode cL_law 1690 = .ok (.invokevirtual 104, 3) := dk_182 0 104 (dk_at dksL_law_65 20 rfl rfl)
theorem dL_law_1693 : decode cL_law 1693 = .ok (.iload 5, 2) := dk_21 5 (dk_at dksL_law_66 0 rfl rfl)
theorem dL_law_1695 : decode cL_law 1695 = .ok (.if_icmp .eq 5, 3) := dk_159 0 5 (dk_at dksL_law_66 2 rfl rfl)
theorem dL_law_1698 : decode cL_law 1698 = .ok (.iconst 0, 1) := dk_3 (dk_at dksL_law_66 5 rfl rfl)
theorem dL_law_1699 : decode cL_law 1699 = .ok (.ireturn, 1) := dk_172 (dk_at dksL_law_66 6 rfl rfl)
theorem dL_law_1700 : decode cL_law 1700 = .ok (.iload 5, 2) := dk_21 5 (dk_at dksL_law_66 7 rfl rfl)
theorem dL_law_1702 : decode cL_law 1702 = .ok (.ifCond .ne 15, 3) := dk_154 0 15 (dk_at dksL_law_66 9 rfl rfl)
theorem dL_law_1705 : decode cL_law 1705 = .ok (.aload_n 3, 1) := dk_45 (dk_at dksL_law_66 12 rfl rfl)
theorem dL_law_1706 : decode cL_law 1706 = .ok (.iconst 0, 1) := dk_3 (dk_at dksL_law_66 13 rfl rfl)
theorem dL_law_1707 : decode cL_law 1707 = .ok (.laload, 1) := dk_47 (dk_at dksL_law_66 14 rfl rfl)
theorem dL_law_1708 : decode cL_law 1708 = .ok (.iload 6, 2) := dk_21 6 (dk_at dksL_law_66 15 rfl rfl)
theorem dL_law_1710 : decode cL_law 1710 = .ok (.i2l, 1) := dk_133 (dk_at dksL_law_66 17 rfl rfl)
theorem dL_law_1711 : decode cL_law 1711 = .ok (.lcmp, 1) := dk_148 (dk_at dksL_law_66 18 rfl rfl)
theorem dL_law_1712 : decode cL_law 1712 = .ok (.ifCond .eq 5, 3) := dk_153 0 5 (dk_at dksL_law_66 19 rfl rfl)
theorem dL_law_1715 : decode cL_law 1715 = .ok (.iconst 0, 1) := dk_3 (dk_at dksL_law_66 22 rfl rfl)
theorem dL_law_1716 : decode cL_law 1716 = .ok (.ireturn, 1) := dk_172 (dk_at dksL_law_66 23 rfl rfl)
theorem dL_law_1717 : decode cL_law 1717 = .ok (.goto 239, 3) := dk_167 0 239 (dk_at dksL_law_67 0 rfl rfl)
theorem dL_law_1720 : decode cL_law 1720 = .ok (.aload_n 1, 1) := dk_43 (dk_at dksL_law_67 3 rfl rfl)
theorem dL_law_1721 : decode cL_law 1721 = .ok (.aload_n 0, 1) := dk_42 (dk_at dksL_law_67 4 rfl rfl)
theorem dL_law_1722 : decode cL_law 1722 = .ok (.iload 4, 2) := dk_21 4 (dk_at dksL_law_67 5 rfl rfl)
theorem dL_law_1724 : decode cL_law 1724 = .ok (.iconst 1, 1) := dk_4 (dk_at dksL_law_67 7 rfl rfl)
theorem dL_law_1725 : decode cL_law 1725 = .ok (.iadd, 1) := dk_96 (dk_at dksL_law_67 8 rfl rfl)
theorem dL_law_1726 : decode cL_law 1726 = .ok (.iaload, 1) := dk_46 (dk_at dksL_law_67 9 rfl rfl)
theorem dL_law_1727 : decode cL_law 1727 = .ok (.aload_n 3, 1) := dk_45 (dk_at dksL_law_67 10 rfl rfl)
theorem dL_law_1728 : decode cL_law 1728 = .ok (.invokestatic 221, 3) := dk_184 0 221 (dk_at dksL_law_67 11 rfl rfl)
theorem dL_law_1731 : decode cL_law 1731 = .ok (.istore 5, 2) := dk_54 5 (dk_at dksL_law_67 14 rfl rfl)
theorem dL_law_1733 : decode cL_law 1733 = .ok (.aload_n 2, 1) := dk_44 (dk_at dksL_law_67 16 rfl rfl)
theorem dL_law_1734 : decode cL_law 1734 = .ok (.aload_n 0, 1) := dk_42 (dk_at dksL_law_67 17 rfl rfl)
theorem dL_law_1735 : decode cL_law 1735 = .ok (.iload 4, 2) := dk_21 4 (dk_at dksL_law_67 18 rfl rfl)
theorem dL_law_1737 : decode cL_law 1737 = .ok (.iconst 1, 1) := dk_4 (dk_at dksL_law_67 20 rfl rfl)
theorem dL_law_1738 : decode cL_law 1738 = .ok (.iadd, 1) := dk_96 (dk_at dksL_law_67 21 rfl rfl)
theorem dL_law_1739 : decode cL_law 1739 = .ok (.iaload, 1) := dk_46 (dk_at dksL_law_67 22 rfl rfl)
theorem dL_law_1740 : decode cL_law 1740 = .ok (.invokevirtual 223, 3) := dk_182 0 223 (dk_at dksL_law_68 0 rfl rfl)
theorem dL_law_1743 : decode cL_law 1743 = .ok (.istore 6, 2) := dk_54 6 (dk_at dksL_law_68 3 rfl rfl)
theorem dL_law_1745 : decode cL_law 1745 = .ok (.aload_n 2, 1) := dk_44 (dk_at dksL_law_68 5 rfl rfl)
theorem dL_law_1746 : decode cL_law 1746 = .ok (.invokevirtual 104, 3) := dk_182 0 104 (dk_at dksL_law_68 6 rfl rfl)
theorem dL_law_1749 : decode cL_law 1749 = .ok (.iload 5, 2) := dk_21 5 (dk_at dksL_law_68 9 rfl rfl)
theorem dL_law_1751 : decode cL_law 1751 = .ok (.if_icmp .eq 5, 3) := dk_159 0 5 (dk_at dksL_law_68 11 rfl rfl)
theorem dL_law_1754 : decode cL_law 1754 = .ok (.iconst 0, 1) := dk_3 (dk_at dksL_law_68 14 rfl rfl)
theorem dL_law_1755 : decode cL_law 1755 = .ok (.ireturn, 1) := dk_172 (dk_at dksL_law_68 15 rfl rfl)
theorem dL_law_1756 : decode cL_law 1756 = .ok (.iload 5, 2) := dk_21 5 (dk_at dksL_law_68 16 rfl rfl)
theorem dL_law_1758 : decode cL_law 1758 = .ok (.ifCond .ne 15, 3) := dk_154 0 15 (dk_at dksL_law_68 18 rfl rfl)
theorem dL_law_1761 : decode cL_law 1761 = .ok (.aload_n 3, 1) := dk_45 (dk_at dksL_law_68 21 rfl rfl)
theorem dL_law_1762 : decode cL_law 1762 = .ok (.iconst 0, 1) := dk_3 (dk_at dksL_law_68 22 rfl rfl)
theorem dL_law_1763 : decode cL_law 1763 = .ok (.laload, 1) := dk_47 (dk_at dksL_law_68 23 rfl rfl)
theorem dL_law_1764 : decode cL_law 1764 = .ok (.iload 6, 2) := dk_21 6 (dk_at dksL_law_69 0 rfl rfl)
theorem dL_law_1766 : decode cL_law 1766 = .ok (.i2l, 1) := dk_133 (dk_at dksL_law_69 2 rfl rfl)
theorem dL_law_1767 : decode cL_law 1767 = .ok (.lcmp, 1) := dk_148 (dk_at dksL_law_69 3 rfl rfl)
theorem dL_law_1768 : decode cL_law 1768 = .ok (.ifCond .eq 5, 3) := dk_153 0 5 (dk_at dksL_law_69 4 rfl rfl)
theorem dL_law_1771 : decode cL_law 1771 = .ok (.iconst 0, 1) := dk_3 (dk_at dksL_law_69 7 rfl rfl)
theorem dL_law_1772 : decode cL_law 1772 = .ok (.ireturn, 1) := dk_172 (dk_at dksL_law_69 8 rfl rfl)
theorem dL_law_1773 : decode cL_law 1773 = .ok (.goto 183, 3) := dk_167 0 183 (dk_at dksL_law_69 9 rfl rfl)
theorem dL_law_1776 : decode cL_law 1776 = .ok (.aload_n 1, 1) := dk_43 (dk_at dksL_law_69 12 rfl rfl)
theorem dL_law_1777 : decode cL_law 1777 = .ok (.aload_n 0, 1) := dk_42 (dk_at dksL_law_69 13 rfl rfl)
theorem dL_law_1778 : decode cL_law 1778 = .ok (.iload 4, 2) := dk_21 4 (dk_at dksL_law_69 14 rfl rfl)
theorem dL_law_1780 : decode cL_law 1780 = .ok (.iconst 1, 1) := dk_4 (dk_at dksL_law_69 16 rfl rfl)
theorem dL_law_1781 : decode cL_law 1781 = .ok (.iadd, 1) := dk_96 (dk_at dksL_law_69 17 rfl rfl)
theorem dL_law_1782 : decode cL_law 1782 = .ok (.iaload, 1) := dk_46 (dk_at dksL_law_69 18 rfl rfl)
theorem dL_law_1783 : decode cL_law 1783 = .ok (.aload_n 3, 1) := dk_45 (dk_at dksL_law_69 19 rfl rfl)
theorem dL_law_1784 : decode cL_law 1784 = .ok (.invokestatic 224, 3) := dk_184 0 224 (dk_at dksL_law_69 20 rfl rfl)
theorem dL_law_1787 : decode cL_law 1787 = .ok (.istore 5, 2) := dk_54 5 (dk_at dksL_law_70 0 rfl rfl)
theorem dL_law_1789 : decode cL_law 1789 = .ok (.aload_n 2, 1) := dk_44 (dk_at dksL_law_70 2 rfl rfl)
theorem dL_law_1790 : decode cL_law 1790 = .ok (.aload_n 0, 1) := dk_42 (dk_at dksL_law_70 3 rfl rfl)
theorem dL_law_1791 : decode cL_law 1791 = .ok (.iload 4, 2) := dk_21 4 (dk_at dksL_law_70 4 rfl rfl)
theorem dL_law_1793 : decode cL_law 1793 = .ok (.iconst 1, 1) := dk_4 (dk_at dksL_law_70 6 rfl rfl)
theorem dL_law_1794 : decode cL_law 1794 = .ok (.iadd, 1) := dk_96 (dk_at dksL_law_70 7 rfl rfl)
theorem dL_law_1795 : decode cL_law 1795 = .ok (.iaload, 1) := dk_46 (dk_at dksL_law_70 8 rfl rfl)
theorem dL_law_1796 : decode cL_law 1796 = .ok (.invokevirtual 226, 3) := dk_182 0 226 (dk_at dksL_law_70 9 rfl rfl)
theorem dL_law_1799 : decode cL_law 1799 = .ok (.istore 6, 2) := dk_54 6 (dk_at dksL_law_70 12 rfl rfl)
theorem dL_law_1801 : decode cL_law 1801 = .ok (.aload_n 2, 1) := dk_44 (dk_at dksL_law_70 14 rfl rfl)
theorem dL_law_1802 : decode cL_law 1802 = .ok (.invokevirtual 104, 3) := dk_182 0 104 (dk_at dksL_law_70 15 rfl rfl)
theorem dL_law_1805 : decode cL_law 1805 = .ok (.iload 5, 2) := dk_21 5 (dk_at dksL_law_70 18 rfl rfl)
theorem dL_law_1807 : decode cL_law 1807 = .ok (.if_icmp .eq 5, 3) := dk_159 0 5 (dk_at dksL_law_70 20 rfl rfl)
theorem dL_law_1810 : decode cL_law 1810 = .ok (.iconst 0, 1) := dk_3 (dk_at dksL_law_70 23 rfl rfl)
theorem dL_law_1811 : decode cL_law 1811 = .ok (.ireturn, 1) := dk_172 (dk_at dksL_law_71 0 rfl rfl)
theorem dL_law_1812 : decode cL_law 1812 = .ok (.iload 5, 2) := dk_21 5 (dk_at dksL_law_71 1 rfl rfl)
theorem dL_law_1814 : decode cL_law 1814 = .ok (.ifCond .ne 15, 3) := dk_154 0 15 (dk_at dksL_law_71 3 rfl rfl)
theorem dL_law_1817 : decode cL_law 1817 = .ok (.aload_n 3, 1) := dk_45 (dk_at dksL_law_71 6 rfl rfl)
theorem dL_law_1818 : decode cL_law 1818 = .ok (.iconst 0, 1) := dk_3 (dk_at dksL_law_71 7 rfl rfl)
theorem dL_law_1819 : decode cL_law 1819 = .ok (.laload, 1) := dk_47 (dk_at dksL_law_71 8 rfl rfl)
theorem dL_law_1820 : decode cL_law 1820 = .ok (.iload 6, 2) := dk_21 6 (dk_at dksL_law_71 9 rfl rfl)
theorem dL_law_1822 : decode cL_law 1822 = .ok (.i2l, 1) := dk_133 (dk_at dksL_law_71 11 rfl rfl)
theorem dL_law_1823 : decode cL_law 1823 = .ok (.lcmp, 1) := dk_148 (dk_at dksL_law_71 12 rfl rfl)
theorem dL_law_1824 : decode cL_law 1824 = .ok (.ifCond .eq 5, 3) := dk_153 0 5 (dk_at dksL_law_71 13 rfl rfl)
theorem dL_law_1827 : decode cL_law 1827 = .ok (.iconst 0, 1) := dk_3 (dk_at dksL_law_71 16 rfl rfl)
theorem dL_law_1828 : decode cL_law 1828 = .ok (.ireturn, 1) := dk_172 (dk_at dksL_law_71 17 rfl rfl)
theorem dL_law_1829 : decode cL_law 1829 = .ok (.goto 127, 3) := dk_167 0 127 (dk_at dksL_law_71 18 rfl rfl)
theorem dL_law_1832 : decode cL_law 1832 = .ok (.aload_n 1, 1) := dk_43 (dk_at dksL_law_71 21 rfl rfl)
theorem dL_law_1833 : decode cL_law 1833 = .ok (.aload_n 0, 1) := dk_42 (dk_at dksL_law_71 22 rfl rfl)
theorem dL_law_1834 : decode cL_law 1834 = .ok (.iload 4, 2) := dk_21 4 (dk_at dksL_law_72 0 rfl rfl)
theorem dL_law_1836 : decode cL_law 1836 = .ok (.iconst 1, 1) := dk_4 (dk_at dksL_law_72 2 rfl rfl)
theorem dL_law_1837 : decode cL_law 1837 = .ok (.iadd, 1) := dk_96 (dk_at dksL_law_72 3 rfl rfl)
theorem dL_law_1838 : decode cL_law 1838 = .ok (.iaload, 1) := dk_46 (dk_at dksL_law_72 4 rfl rfl)
theorem dL_law_1839 : decode cL_law 1839 = .ok (.aload_n 3, 1) := dk_45 (dk_at dksL_law_72 5 rfl rfl)
theorem dL_law_1840 : decode cL_law 1840 = .ok (.invokestatic 227, 3) := dk_184 0 227 (dk_at dksL_law_72 6 rfl rfl)
theorem dL_law_1843 : decode cL_law 1843 = .ok (.istore 5, 2) := dk_54 5 (dk_at dksL_law_72 9 rfl rfl)
theorem dL_law_1845 : decode cL_law 1845 = .ok (.aload_n 2, 1) := dk_44 (dk_at dksL_law_72 11 rfl rfl)
theorem dL_law_1846 : decode cL_law 1846 = .ok (.aload_n 0, 1) := dk_42 (dk_at dksL_law_72 12 rfl rfl)
theorem dL_law_1847 : decode cL_law 1847 = .ok (.iload 4, 2) := dk_21 4 (dk_at dksL_law_72 13 rfl rfl)
theorem dL_law_1849 : decode cL_law 1849 = .ok (.iconst 1, 1) := dk_4 (dk_at dksL_law_72 15 rfl rfl)
theorem dL_law_1850 : decode cL_law 1850 = .ok (.iadd, 1) := dk_96 (dk_at dksL_law_72 16 rfl rfl)
theorem dL_law_1851 : decode cL_law 1851 = .ok (.iaload, 1) := dk_46 (dk_at dksL_law_72 17 rfl rfl)
theorem dL_law_1852 : decode cL_law 1852 = .ok (.invokevirtual 229, 3) := dk_182 0 229 (dk_at dksL_law_72 18 rfl rfl)
theorem dL_law_1855 : decode cL_law 1855 = .ok (.istore 6, 2) := dk_54 6 (dk_at dksL_law_72 21 rfl rfl)
theorem dL_law_1857 : decode cL_law 1857 = .ok (.aload_n 2, 1) := dk_44 (dk_at dksL_law_72 23 rfl rfl)
theorem dL_law_1858 : decode cL_law 1858 = .ok (.invokevirtual 104, 3) := dk_182 0 104 (dk_at dksL_law_73 0 rfl rfl)
theorem dL_law_1861 : decode cL_law 1861 = .ok (.iload 5, 2) := dk_21 5 (dk_at dksL_law_73 3 rfl rfl)
theorem dL_law_1863 : decode cL_law 1863 = .ok (.if_icmp .eq 5, 3) := dk_159 0 5 (dk_at dksL_law_73 5 rfl rfl)
theorem dL_law_1866 : decode cL_law 1866 = .ok (.iconst 0, 1) := dk_3 (dk_at dksL_law_73 8 rfl rfl)
theorem dL_law_1867 : decode cL_law 1867 = .ok (.ireturn, 1) := dk_172 (dk_at dksL_law_73 9 rfl rfl)
theorem dL_law_1868 : decode cL_law 1868 = .ok (.iload 5, 2) := dk_21 5 (dk_at dksL_law_73 10 rfl rfl)
theorem dL_law_1870 : decode cL_law 1870 = .ok (.ifCond .ne 15, 3) := dk_154 0 15 (dk_at dksL_law_73 12 rfl rfl)
theorem dL_law_1873 : decode cL_law 1873 = .ok (.aload_n 3, 1) := dk_45 (dk_at dksL_law_73 15 rfl rfl)
theorem dL_law_1874 : decode cL_law 1874 = .ok (.iconst 0, 1) := dk_3 (dk_at dksL_law_73 16 rfl rfl)
theorem dL_law_1875 : decode cL_law 1875 = .ok (.laload, 1) := dk_47 (dk_at dksL_law_73 17 rfl rfl)
theorem dL_law_1876 : decode cL_law 1876 = .ok (.iload 6, 2) := dk_21 6 (dk_at dksL_law_73 18 rfl rfl)
theorem dL_law_1878 : decode cL_law 1878 = .ok (.i2l, 1) := dk_133 (dk_at dksL_law_73 20 rfl rfl)
theorem dL_law_1879 : decode cL_law 1879 = .ok (.lcmp, 1) := dk_148 (dk_at dksL_law_73 21 rfl rfl)
theorem dL_law_1880 : decode cL_law 1880 = .ok (.ifCond .eq 5, 3) := dk_153 0 5 (dk_at dksL_law_74 0 rfl rfl)
theorem dL_law_1883 : decode cL_law 1883 = .ok (.iconst 0, 1) := dk_3 (dk_at dksL_law_74 3 rfl rfl)
theorem dL_law_1884 : decode cL_law 1884 = .ok (.ireturn, 1) := dk_172 (dk_at dksL_law_74 4 rfl rfl)
theorem dL_law_1885 : decode cL_law 1885 = .ok (.goto 71, 3) := dk_167 0 71 (dk_at dksL_law_74 5 rfl rfl)
theorem dL_law_1888 : decode cL_law 1888 = .ok (.aload_n 1, 1) := dk_43 (dk_at dksL_law_74 8 rfl rfl)
theorem dL_law_1889 : decode cL_law 1889 = .ok (.invokevirtual 230, 3) := dk_182 0 230 (dk_at dksL_law_74 9 rfl rfl)
theorem dL_law_1892 : decode cL_law 1892 = .ok (.aload_n 2, 1) := dk_44 (dk_at dksL_law_74 12 rfl rfl)
theorem dL_law_1893 : decode cL_law 1893 = .ok (.invokevirtual 233, 3) := dk_182 0 233 (dk_at dksL_law_74 13 rfl rfl)
theorem dL_law_1896 : decode cL_law 1896 = .ok (.if_icmp .eq 60, 3) := dk_159 0 60 (dk_at dksL_law_74 16 rfl rfl)
theorem dL_law_1899 : decode cL_law 1899 = .ok (.iconst 0, 1) := dk_3 (dk_at dksL_law_74 19 rfl rfl)
theorem dL_law_1900 : decode cL_law 1900 = .ok (.ireturn, 1) := dk_172 (dk_at dksL_law_74 20 rfl rfl)
theorem dL_law_1901 : decode cL_law 1901 = .ok (.aload_n 1, 1) := dk_43 (dk_at dksL_law_74 21 rfl rfl)
theorem dL_law_1902 : decode cL_law 1902 = .ok (.invokevirtual 234, 3) := dk_182 0 234 (dk_at dksL_law_75 0 rfl rfl)
theorem dL_law_1905 : decode cL_law 1905 = .ok (.dstore 5, 2) := dk_57 5 (dk_at dksL_law_75 3 rfl rfl)
theorem dL_law_1907 : decode cL_law 1907 = .ok (.aload_n 2, 1) := dk_44 (dk_at dksL_law_75 5 rfl rfl)
theorem dL_law_1908 : decode cL_law 1908 = .ok (.invokevirtual 238, 3) := dk_182 0 238 (dk_at dksL_law_75 6 rfl rfl)
theorem dL_law_1911 : decode cL_law 1911 = .ok (.dstore 7, 2) := dk_57 7 (dk_at dksL_law_75 9 rfl rfl)
theorem dL_law_1913 : decode cL_law 1913 = .ok (.dload 5, 2) := dk_24 5 (dk_at dksL_law_75 11 rfl rfl)
theorem dL_law_1915 : decode cL_law 1915 = .ok (.dload 7, 2) := dk_24 7 (dk_at dksL_law_75 13 rfl rfl)
theorem dL_law_1917 : decode cL_law 1917 = .ok (.dcmp .l, 1) := dk_151 (dk_at dksL_law_75 15 rfl rfl)
theorem dL_law_1918 : decode cL_law 1918 = .ok (.ifCond .eq 21, 3) := dk_153 0 21 (dk_at dksL_law_75 16 rfl rfl)
theorem dL_law_1921 : decode cL_law 1921 = .ok (.dload 5, 2) := dk_24 5 (dk_at dksL_law_75 19 rfl rfl)
theorem dL_law_1923 : decode cL_law 1923 = .ok (.dload 5, 2) := dk_24 5 (dk_at dksL_law_75 21 rfl rfl)
theorem dL_law_1925 : decode cL_law 1925 = .ok (.dcmp .l, 1) := dk_151 (dk_at dksL_law_75 23 rfl rfl)
theorem dL_law_1926 : decode cL_law 1926 = .ok (.ifCond .eq 11, 3) := dk_153 0 11 (dk_at dksL_law_76 0 rfl rfl)
theorem dL_law_1929 : decode cL_law 1929 = .ok (.dload 7, 2) := dk_24 7 (dk_at dksL_law_76 3 rfl rfl)
theorem dL_law_1931 : decode cL_law 1931 = .ok (.dload 7, 2) := dk_24 7 (dk_at dksL_law_76 5 rfl rfl)
theorem dL_law_1933 : decode cL_law 1933 = .ok (.dcmp .l, 1) := dk_151 (dk_at dksL_law_76 7 rfl rfl)
theorem dL_law_1934 : decode cL_law 1934 = .ok (.ifCond .ne 5, 3) := dk_154 0 5 (dk_at dksL_law_76 8 rfl rfl)
theorem dL_law_1937 : decode cL_law 1937 = .ok (.iconst 0, 1) := dk_3 (dk_at dksL_law_76 11 rfl rfl)
theorem dL_law_1938 : decode cL_law 1938 = .ok (.ireturn, 1) := dk_172 (dk_at dksL_law_76 12 rfl rfl)
theorem dL_law_1939 : decode cL_law 1939 = .ok (.goto 17, 3) := dk_167 0 17 (dk_at dksL_law_76 13 rfl rfl)
theorem dL_law_1942 : decode cL_law 1942 = .ok (.aload_n 1, 1) := dk_43 (dk_at dksL_law_76 16 rfl rfl)
theorem dL_law_1943 : decode cL_law 1943 = .ok (.invokevirtual 239, 3) := dk_182 0 239 (dk_at dksL_law_76 17 rfl rfl)
theorem dL_law_1946 : decode cL_law 1946 = .ok (.aload_n 2, 1) := dk_44 (dk_at dksL_law_76 20 rfl rfl)
theorem dL_law_1947 : decode cL_law 1947 = .ok (.invokevirtual 243, 3) := dk_182 0 243 (dk_at dksL_law_76 21 rfl rfl)
theorem dL_law_1950 : decode cL_law 1950 = .ok (.lcmp, 1) := dk_148 (dk_at dksL_law_77 0 rfl rfl)
theorem dL_law_1951 : decode cL_law 1951 = .ok (.ifCond .eq 5, 3) := dk_153 0 5 (dk_at dksL_law_77 1 rfl rfl)
theorem dL_law_1954 : decode cL_law 1954 = .ok (.iconst 0, 1) := dk_3 (dk_at dksL_law_77 4 rfl rfl)
theorem dL_law_1955 : decode cL_law 1955 = .ok (.ireturn, 1) := dk_172 (dk_at dksL_law_77 5 rfl rfl)
theorem dL_law_1956 : decode cL_law 1956 = .ok (.iinc 4 6, 3) := dk_132 4 6 (dk_at dksL_law_77 6 rfl rfl)
theorem dL_law_1959 : decode cL_law 1959 = .ok (.goto (-1936), 3) := dk_167 248 112 (dk_at dksL_law_77 9 rfl rfl)
theorem dL_law_1962 : decode cL_law 1962 = .ok (.iconst 1, 1) := dk_4 (dk_at dksL_law_77 12 rfl rfl)
theorem dL_law_1963 : decode cL_law 1963 = .ok (.ireturn, 1) := dk_172 (dk_at dksL_law_77 13 rfl rfl)
theorem fnX0_8 : sd_Fn "SofaDigLaw" 8 0 4 [.null, .int 0, .null, .null] := ⟨(RX1, TX1, 4), tyX1, rfl, rfl, in_X1, q182, q183, q116, tyX1_ok, fun j hj => by revert j; decide⟩
theorem fnX0_95 : sd_Fn "SofaDigLaw" 95 4 18 [.int 0, .null, .int 0, .int 0, .null, .null, .null, .null, .null, .null, .int 0, .int 0, .int 0, .int 0, .int 0, .null, .null, .null] := ⟨(RX5, TX5, 18), tyX5, rfl, rfl, in_X5, q2759, q2760, q127, tyX5_ok, fun j hj => by revert j; decide⟩
abbrev mL_law : sd_Y := (x, cL_law, 9, some (.boolean), none)
def fL_law_b23 (G : sd_G) (k23 : Nat × Nat × Nat × Nat × Int32 → sd_M Int32) (w0 : Nat) (w1 : Nat) (w2 : Nat) (w3 : Nat) (w4 : Int32) : sd_M Int32 :=
  sd_bnd (sd_alen G w0) fun v4 =>
  if (v4 - 6) < w4 then (
    sd_ret 1)
  else (
    sd_bnd (sd_aldI G 0 w0 w4) fun v5 =>
    sd_bnd (sd_ret (v5 &&& 63)) fun x6 =>
    if x6 = 0 then (
      sd_bnd (sd_aldI G 0 w0 (w4 + 1)) fun v7 =>
      sd_bnd (sd_aldI G 0 w0 (w4 + 2)) fun v8 =>
      sd_bnd (sd_aldI G 0 w0 (w4 + 3)) fun v9 =>
      sd_bnd (sd_aldI G 0 w0 (w4 + 4)) fun v10 =>
      sd_bnd (sd_aldI G 0 w0 (w4 + 5)) fun v11 =>
      sd_bnd (fX0_feed G w1 v7 v8 v9 v10 v11 w3) fun r12 =>
      sd_bnd (sd_aldI G 0 w0 (w4 + 1)) fun v13 =>
      sd_bnd (sd_aldI G 0 w0 (w4 + 2)) fun v14 =>
      sd_bnd (sd_aldI G 0 w0 (w4 + 3)) fun v15 =>
      sd_bnd (sd_aldI G 0 w0 (w4 + 4)) fun v16 =>
      sd_bnd (sd_aldI G 0 w0 (w4 + 5)) fun v17 =>
      sd_bnd (sd_isC G 4 w2) fun _ =>
      sd_bnd (fX5_feed G w2 v13 v14 v15 v16 v17) fun r18 =>
      sd_bnd (sd_isC G 4 w2) fun _ =>
      sd_bnd (fX5_thrown G w2) fun r19 =>
      if r19 = r12 then (
        if r12 = 0 then (
          sd_bnd (sd_aldL G w3 0) fun v21 =>
          if (lg_cmp v21 (r18.toInt64)) = 0 then (
            sd_bnd (sd_ret (w4 + 6)) fun x22 =>
            k23 (w0, w1, w2, w3, x22))
          else (
            sd_ret 0))
        else (
          sd_bnd (sd_ret (w4 + 6)) fun x20 =>
          k23 (w0, w1, w2, w3, x20)))
      else (
        sd_ret 0))
    else if x6 = 1 then (
      sd_bnd (sd_aldI G 0 w0 (w4 + 1)) fun v23 =>
      sd_bnd (fX0_trim G w1 v23 w3) fun r24 =>
      sd_bnd (sd_aldI G 0 w0 (w4 + 1)) fun v25 =>
      sd_bnd (sd_isC G 4 w2) fun _ =>
      sd_bnd (fX5_trim G w2 v25) fun r26 =>
      sd_bnd (sd_isC G 4 w2) fun _ =>
      sd_bnd (fX5_thrown G w2) fun r27 =>
      if r27 = r24 then (
        if r24 = 0 then (
          sd_bnd (sd_aldL G w3 0) fun v29 =>
          if (lg_cmp v29 (r26.toInt64)) = 0 then (
            sd_bnd (sd_ret (w4 + 6)) fun x30 =>
            k23 (w0, w1, w2, w3, x30))
          else (
            sd_ret 0))
        else (
          sd_bnd (sd_ret (w4 + 6)) fun x28 =>
          k23 (w0, w1, w2, w3, x28)))
      else (
        sd_ret 0))
    else if x6 = 2 then (
      sd_bnd (sd_isC G 0 w1) fun _ =>
      sd_bnd (fX1_teach G w1) fun r31 =>
      sd_bnd (sd_isC G 4 w2) fun _ =>
      sd_bnd (fX5_teach G w2) fun r32 =>
      if r31 = r32 then (
        sd_bnd (sd_ret (w4 + 6)) fun x33 =>
        k23 (w0, w1, w2, w3, x33))
      else (
        sd_ret 0))
    else if x6 = 3 then (
      sd_bnd (sd_isC G 0 w1) fun _ =>
      sd_bnd (fX1_errorAt G w1) fun r34 =>
      sd_bnd (sd_isC G 4 w2) fun _ =>
      sd_bnd (fX5_errorAt G w2) fun r35 =>
      if r34 = r35 then (
        sd_bnd (sd_ret (w4 + 6)) fun x36 =>
        k23 (w0, w1, w2, w3, x36))
      else (
        sd_ret 0))
    else if x6 = 4 then (
      sd_bnd (sd_isC G 0 w1) fun _ =>
      sd_bnd (fX1_seats G w1) fun r37 =>
      sd_bnd (sd_isC G 4 w2) fun _ =>
      sd_bnd (fX5_seats G w2) fun r38 =>
      if r37 = r38 then (
        sd_bnd (sd_ret (w4 + 6)) fun x39 =>
        k23 (w0, w1, w2, w3, x39))
      else (
        sd_ret 0))
    else if x6 = 5 then (
      sd_bnd (sd_isC G 0 w1) fun _ =>
      sd_bnd (fX1_strata G w1) fun r40 =>
      sd_bnd (sd_isC G 4 w2) fun _ =>
      sd_bnd (fX5_strata G w2) fun r41 =>
      if r40 = r41 then (
        sd_bnd (sd_ret (w4 + 6)) fun x42 =>
        k23 (w0, w1, w2, w3, x42))
      else (
        sd_ret 0))
    else if x6 = 6 then (
      sd_bnd (sd_isC G 0 w1) fun _ =>
      sd_bnd (fX1_finds G w1) fun r43 =>
      sd_bnd (sd_isC G 4 w2) fun _ =>
      sd_bnd (fX5_finds G w2) fun r44 =>
      if r43 = r44 then (
        sd_bnd (sd_ret (w4 + 6)) fun x45 =>
        k23 (w0, w1, w2, w3, x45))
      else (
        sd_ret 0))
    else if x6 = 7 then (
      sd_bnd (sd_isC G 0 w1) fun _ =>
      sd_bnd (fX1_days G w1) fun r46 =>
      sd_bnd (sd_isC G 4 w2) fun _ =>
      sd_bnd (fX5_days G w2) fun r47 =>
      if r46 = r47 then (
        sd_bnd (sd_ret (w4 + 6)) fun x48 =>
        k23 (w0, w1, w2, w3, x48))
      else (
        sd_ret 0))
    else if x6 = 8 then (
      sd_bnd (sd_isC G 0 w1) fun _ =>
      sd_bnd (fX1_ordersCarriedOut G w1) fun r49 =>
      sd_bnd (sd_isC G 4 w2) fun _ =>
      sd_bnd (fX5_ordersCarriedOut G w2) fun r50 =>
      if r49 = r50 then (
        sd_bnd (sd_ret (w4 + 6)) fun x51 =>
        k23 (w0, w1, w2, w3, x51))
      else (
        sd_ret 0))
    else if x6 = 9 then (
      sd_bnd (sd_isC G 0 w1) fun _ =>
      sd_bnd (fX1_cushionsDug G w1) fun r52 =>
      sd_bnd (sd_isC G 4 w2) fun _ =>
      sd_bnd (fX5_cushionsDug G w2) fun r53 =>
      if r52 = r53 then (
        sd_bnd (sd_ret (w4 + 6)) fun x54 =>
        k23 (w0, w1, w2, w3, x54))
      else (
        sd_ret 0))
    else if x6 = 10 then (
      sd_bnd (sd_isC G 0 w1) fun _ =>
      sd_bnd (fX1_slides G w1) fun r55 =>
      sd_bnd (sd_isC G 4 w2) fun _ =>
      sd_bnd (fX5_slides G w2) fun r56 =>
      if r55 = r56 then (
        sd_bnd (sd_ret (w4 + 6)) fun x57 =>
        k23 (w0, w1, w2, w3, x57))
      else (
        sd_ret 0))
    else if x6 = 11 then (
      sd_bnd (sd_isC G 0 w1) fun _ =>
      sd_bnd (fX1_found G w1) fun r58 =>
      sd_bnd (sd_isC G 4 w2) fun _ =>
      sd_bnd (fX5_found G w2) fun r59 =>
      if r58 = r59 then (
        sd_bnd (sd_ret (w4 + 6)) fun x60 =>
        k23 (w0, w1, w2, w3, x60))
      else (
        sd_ret 0))
    else if x6 = 12 then (
      sd_bnd (sd_isC G 0 w1) fun _ =>
      sd_bnd (fX1_sureFinds G w1) fun r61 =>
      sd_bnd (sd_isC G 4 w2) fun _ =>
      sd_bnd (fX5_sureFinds G w2) fun r62 =>
      if r61 = r62 then (
        sd_bnd (sd_ret (w4 + 6)) fun x63 =>
        k23 (w0, w1, w2, w3, x63))
      else (
        sd_ret 0))
    else if x6 = 13 then (
      sd_bnd (sd_isC G 0 w1) fun _ =>
      sd_bnd (fX1_props G w1) fun r64 =>
      sd_bnd (sd_isC G 4 w2) fun _ =>
      sd_bnd (fX5_props G w2) fun r65 =>
      if r64 = r65 then (
        sd_bnd (sd_ret (w4 + 6)) fun x66 =>
        k23 (w0, w1, w2, w3, x66))
      else (
        sd_ret 0))
    else if x6 = 14 then (
      sd_bnd (sd_aldI G 0 w0 (w4 + 1)) fun v67 =>
      sd_bnd (fX0_heightOf G w1 v67 w3) fun r68 =>
      sd_bnd (sd_aldI G 0 w0 (w4 + 1)) fun v69 =>
      sd_bnd (sd_isC G 4 w2) fun _ =>
      sd_bnd (fX5_heightOf G w2 v69) fun r70 =>
      sd_bnd (sd_isC G 4 w2) fun _ =>
      sd_bnd (fX5_thrown G w2) fun r71 =>
      if r71 = r68 then (
        if r68 = 0 then (
          sd_bnd (sd_aldL G w3 0) fun v73 =>
          if (lg_cmp v73 (r70.toInt64)) = 0 then (
            sd_bnd (sd_ret (w4 + 6)) fun x74 =>
            k23 (w0, w1, w2, w3, x74))
          else (
            sd_ret 0))
        else (
          sd_bnd (sd_ret (w4 + 6)) fun x72 =>
          k23 (w0, w1, w2, w3, x72)))
      else (
        sd_ret 0))
    else if x6 = 15 then (
      sd_bnd (sd_aldI G 0 w0 (w4 + 1)) fun v75 =>
      sd_bnd (fX0_isPropped G w1 v75 w3) fun r76 =>
      sd_bnd (sd_aldI G 0 w0 (w4 + 1)) fun v77 =>
      sd_bnd (sd_isC G 4 w2) fun _ =>
      sd_bnd (fX5_isPropped G w2 v77) fun r78 =>
      sd_bnd (sd_isC G 4 w2) fun _ =>
      sd_bnd (fX5_thrown G w2) fun r79 =>
      if r79 = r76 then (
        if r76 = 0 then (
          sd_bnd (sd_aldL G w3 0) fun v81 =>
          if r78 = 0 then (
            if (lg_cmp v81 0) = 0 then (
              sd_bnd (sd_ret (w4 + 6)) fun x82 =>
              k23 (w0, w1, w2, w3, x82))
            else (
              sd_ret 0))
          else (
            if (lg_cmp v81 1) = 0 then (
              sd_bnd (sd_ret (w4 + 6)) fun x83 =>
              k23 (w0, w1, w2, w3, x83))
            else (
              sd_ret 0)))
        else (
          sd_bnd (sd_ret (w4 + 6)) fun x80 =>
          k23 (w0, w1, w2, w3, x80)))
      else (
        sd_ret 0))
    else if x6 = 16 then (
      sd_bnd (sd_aldI G 0 w0 (w4 + 1)) fun v84 =>
      sd_bnd (fX0_topStratum G w1 v84 w3) fun r85 =>
      sd_bnd (sd_aldI G 0 w0 (w4 + 1)) fun v86 =>
      sd_bnd (sd_isC G 4 w2) fun _ =>
      sd_bnd (fX5_topStratum G w2 v86) fun r87 =>
      sd_bnd (sd_isC G 4 w2) fun _ =>
      sd_bnd (fX5_thrown G w2) fun r88 =>
      if r88 = r85 then (
        if r85 = 0 then (
          sd_bnd (sd_aldL G w3 0) fun v90 =>
          if (lg_cmp v90 (r87.toInt64)) = 0 then (
            sd_bnd (sd_ret (w4 + 6)) fun x91 =>
            k23 (w0, w1, w2, w3, x91))
          else (
            sd_ret 0))
        else (
          sd_bnd (sd_ret (w4 + 6)) fun x89 =>
          k23 (w0, w1, w2, w3, x89)))
      else (
        sd_ret 0))
    else if x6 = 17 then (
      sd_bnd (sd_aldI G 0 w0 (w4 + 1)) fun v92 =>
      sd_bnd (fX0_isTopLoose G w1 v92 w3) fun r93 =>
      sd_bnd (sd_aldI G 0 w0 (w4 + 1)) fun v94 =>
      sd_bnd (sd_isC G 4 w2) fun _ =>
      sd_bnd (fX5_isTopLoose G w2 v94) fun r95 =>
      sd_bnd (sd_isC G 4 w2) fun _ =>
      sd_bnd (fX5_thrown G w2) fun r96 =>
      if r96 = r93 then (
        if r93 = 0 then (
          sd_bnd (sd_aldL G w3 0) fun v98 =>
          if r95 = 0 then (
            if (lg_cmp v98 0) = 0 then (
              sd_bnd (sd_ret (w4 + 6)) fun x99 =>
              k23 (w0, w1, w2, w3, x99))
            else (
              sd_ret 0))
          else (
            if (lg_cmp v98 1) = 0 then (
              sd_bnd (sd_ret (w4 + 6)) fun x100 =>
              k23 (w0, w1, w2, w3, x100))
            else (
              sd_ret 0)))
        else (
          sd_bnd (sd_ret (w4 + 6)) fun x97 =>
          k23 (w0, w1, w2, w3, x97)))
      else (
        sd_ret 0))
    else if x6 = 18 then (
      sd_bnd (sd_aldI G 0 w0 (w4 + 1)) fun v101 =>
      sd_bnd (fX0_hasTopSpring G w1 v101 w3) fun r102 =>
      sd_bnd (sd_aldI G 0 w0 (w4 + 1)) fun v103 =>
      sd_bnd (sd_isC G 4 w2) fun _ =>
      sd_bnd (fX5_hasTopSpring G w2 v103) fun r104 =>
      sd_bnd (sd_isC G 4 w2) fun _ =>
      sd_bnd (fX5_thrown G w2) fun r105 =>
      if r105 = r102 then (
        if r102 = 0 then (
          sd_bnd (sd_aldL G w3 0) fun v107 =>
          if r104 = 0 then (
            if (lg_cmp v107 0) = 0 then (
              sd_bnd (sd_ret (w4 + 6)) fun x108 =>
              k23 (w0, w1, w2, w3, x108))
            else (
              sd_ret 0))
          else (
            if (lg_cmp v107 1) = 0 then (
              sd_bnd (sd_ret (w4 + 6)) fun x109 =>
              k23 (w0, w1, w2, w3, x109))
            else (
              sd_ret 0)))
        else (
          sd_bnd (sd_ret (w4 + 6)) fun x106 =>
          k23 (w0, w1, w2, w3, x106)))
      else (
        sd_ret 0))
    else if x6 = 19 then (
      sd_bnd (sd_aldI G 0 w0 (w4 + 1)) fun v110 =>
      sd_bnd (fX0_findsLeft G w1 v110 w3) fun r111 =>
      sd_bnd (sd_aldI G 0 w0 (w4 + 1)) fun v112 =>
      sd_bnd (sd_isC G 4 w2) fun _ =>
      sd_bnd (fX5_findsLeft G w2 v112) fun r113 =>
      sd_bnd (sd_isC G 4 w2) fun _ =>
      sd_bnd (fX5_thrown G w2) fun r114 =>
      if r114 = r111 then (
        if r111 = 0 then (
          sd_bnd (sd_aldL G w3 0) fun v116 =>
          if (lg_cmp v116 (r113.toInt64)) = 0 then (
            sd_bnd (sd_ret (w4 + 6)) fun x117 =>
            k23 (w0, w1, w2, w3, x117))
          else (
            sd_ret 0))
        else (
          sd_bnd (sd_ret (w4 + 6)) fun x115 =>
          k23 (w0, w1, w2, w3, x115)))
      else (
        sd_ret 0))
    else if x6 = 20 then (
      sd_bnd (sd_aldI G 0 w0 (w4 + 1)) fun v118 =>
      sd_bnd (fX0_isCoin G w1 v118 w3) fun r119 =>
      sd_bnd (sd_aldI G 0 w0 (w4 + 1)) fun v120 =>
      sd_bnd (sd_isC G 4 w2) fun _ =>
      sd_bnd (fX5_isCoin G w2 v120) fun r121 =>
      sd_bnd (sd_isC G 4 w2) fun _ =>
      sd_bnd (fX5_thrown G w2) fun r122 =>
      if r122 = r119 then (
        if r119 = 0 then (
          sd_bnd (sd_aldL G w3 0) fun v124 =>
          if r121 = 0 then (
            if (lg_cmp v124 0) = 0 then (
              sd_bnd (sd_ret (w4 + 6)) fun x125 =>
              k23 (w0, w1, w2, w3, x125))
            else (
              sd_ret 0))
          else (
            if (lg_cmp v124 1) = 0 then (
              sd_bnd (sd_ret (w4 + 6)) fun x126 =>
              k23 (w0, w1, w2, w3, x126))
            else (
              sd_ret 0)))
        else (
          sd_bnd (sd_ret (w4 + 6)) fun x123 =>
          k23 (w0, w1, w2, w3, x123)))
      else (
        sd_ret 0))
    else if x6 = 21 then (
      sd_bnd (sd_aldI G 0 w0 (w4 + 1)) fun v127 =>
      sd_bnd (fX0_isFound G w1 v127 w3) fun r128 =>
      sd_bnd (sd_aldI G 0 w0 (w4 + 1)) fun v129 =>
      sd_bnd (sd_isC G 4 w2) fun _ =>
      sd_bnd (fX5_isFound G w2 v129) fun r130 =>
      sd_bnd (sd_isC G 4 w2) fun _ =>
      sd_bnd (fX5_thrown G w2) fun r131 =>
      if r131 = r128 then (
        if r128 = 0 then (
          sd_bnd (sd_aldL G w3 0) fun v133 =>
          if r130 = 0 then (
            if (lg_cmp v133 0) = 0 then (
              sd_bnd (sd_ret (w4 + 6)) fun x134 =>
              k23 (w0, w1, w2, w3, x134))
            else (
              sd_ret 0))
          else (
            if (lg_cmp v133 1) = 0 then (
              sd_bnd (sd_ret (w4 + 6)) fun x135 =>
              k23 (w0, w1, w2, w3, x135))
            else (
              sd_ret 0)))
        else (
          sd_bnd (sd_ret (w4 + 6)) fun x132 =>
          k23 (w0, w1, w2, w3, x132)))
      else (
        sd_ret 0))
    else if x6 = 22 then (
      sd_bnd (sd_aldI G 0 w0 (w4 + 1)) fun v136 =>
      sd_bnd (fX0_isSure G w1 v136 w3) fun r137 =>
      sd_bnd (sd_aldI G 0 w0 (w4 + 1)) fun v138 =>
      sd_bnd (sd_isC G 4 w2) fun _ =>
      sd_bnd (fX5_isSure G w2 v138) fun r139 =>
      sd_bnd (sd_isC G 4 w2) fun _ =>
      sd_bnd (fX5_thrown G w2) fun r140 =>
      if r140 = r137 then (
        if r137 = 0 then (
          sd_bnd (sd_aldL G w3 0) fun v142 =>
          if r139 = 0 then (
            if (lg_cmp v142 0) = 0 then (
              sd_bnd (sd_ret (w4 + 6)) fun x143 =>
              k23 (w0, w1, w2, w3, x143))
            else (
              sd_ret 0))
          else (
            if (lg_cmp v142 1) = 0 then (
              sd_bnd (sd_ret (w4 + 6)) fun x144 =>
              k23 (w0, w1, w2, w3, x144))
            else (
              sd_ret 0)))
        else (
          sd_bnd (sd_ret (w4 + 6)) fun x141 =>
          k23 (w0, w1, w2, w3, x141)))
      else (
        sd_ret 0))
    else if x6 = 23 then (
      sd_bnd (sd_aldI G 0 w0 (w4 + 1)) fun v145 =>
      sd_bnd (fX0_stratumOf G w1 v145 w3) fun r146 =>
      sd_bnd (sd_aldI G 0 w0 (w4 + 1)) fun v147 =>
      sd_bnd (sd_isC G 4 w2) fun _ =>
      sd_bnd (fX5_stratumOf G w2 v147) fun r148 =>
      sd_bnd (sd_isC G 4 w2) fun _ =>
      sd_bnd (fX5_thrown G w2) fun r149 =>
      if r149 = r146 then (
        if r146 = 0 then (
          sd_bnd (sd_aldL G w3 0) fun v151 =>
          if (lg_cmp v151 (r148.toInt64)) = 0 then (
            sd_bnd (sd_ret (w4 + 6)) fun x152 =>
            k23 (w0, w1, w2, w3, x152))
          else (
            sd_ret 0))
        else (
          sd_bnd (sd_ret (w4 + 6)) fun x150 =>
          k23 (w0, w1, w2, w3, x150)))
      else (
        sd_ret 0))
    else if x6 = 24 then (
      sd_bnd (sd_aldI G 0 w0 (w4 + 1)) fun v153 =>
      sd_bnd (fX0_yearOf G w1 v153 w3) fun r154 =>
      sd_bnd (sd_aldI G 0 w0 (w4 + 1)) fun v155 =>
      sd_bnd (sd_isC G 4 w2) fun _ =>
      sd_bnd (fX5_yearOf G w2 v155) fun r156 =>
      sd_bnd (sd_isC G 4 w2) fun _ =>
      sd_bnd (fX5_thrown G w2) fun r157 =>
      if r157 = r154 then (
        if r154 = 0 then (
          sd_bnd (sd_aldL G w3 0) fun v159 =>
          if (lg_cmp v159 (r156.toInt64)) = 0 then (
            sd_bnd (sd_ret (w4 + 6)) fun x160 =>
            k23 (w0, w1, w2, w3, x160))
          else (
            sd_ret 0))
        else (
          sd_bnd (sd_ret (w4 + 6)) fun x158 =>
          k23 (w0, w1, w2, w3, x158)))
      else (
        sd_ret 0))
    else if x6 = 25 then (
      sd_bnd (sd_aldI G 0 w0 (w4 + 1)) fun v161 =>
      sd_bnd (fX0_empireOf G w1 v161 w3) fun r162 =>
      sd_bnd (sd_aldI G 0 w0 (w4 + 1)) fun v163 =>
      sd_bnd (sd_isC G 4 w2) fun _ =>
      sd_bnd (fX5_empireOf G w2 v163) fun r164 =>
      sd_bnd (sd_isC G 4 w2) fun _ =>
      sd_bnd (fX5_thrown G w2) fun r165 =>
      if r165 = r162 then (
        if r162 = 0 then (
          sd_bnd (sd_aldL G w3 0) fun v167 =>
          if (lg_cmp v167 (r164.toInt64)) = 0 then (
            sd_bnd (sd_ret (w4 + 6)) fun x168 =>
            k23 (w0, w1, w2, w3, x168))
          else (
            sd_ret 0))
        else (
          sd_bnd (sd_ret (w4 + 6)) fun x166 =>
          k23 (w0, w1, w2, w3, x166)))
      else (
        sd_ret 0))
    else if x6 = 26 then (
      sd_bnd (sd_aldI G 0 w0 (w4 + 1)) fun v169 =>
      sd_bnd (fX0_buriedUnder G w1 v169 w3) fun r170 =>
      sd_bnd (sd_aldI G 0 w0 (w4 + 1)) fun v171 =>
      sd_bnd (sd_isC G 4 w2) fun _ =>
      sd_bnd (fX5_buriedUnder G w2 v171) fun r172 =>
      sd_bnd (sd_isC G 4 w2) fun _ =>
      sd_bnd (fX5_thrown G w2) fun r173 =>
      if r173 = r170 then (
        if r170 = 0 then (
          sd_bnd (sd_aldL G w3 0) fun v175 =>
          if (lg_cmp v175 (r172.toInt64)) = 0 then (
            sd_bnd (sd_ret (w4 + 6)) fun x176 =>
            k23 (w0, w1, w2, w3, x176))
          else (
            sd_ret 0))
        else (
          sd_bnd (sd_ret (w4 + 6)) fun x174 =>
          k23 (w0, w1, w2, w3, x174)))
      else (
        sd_ret 0))
    else if x6 = 27 then (
      sd_bnd (sd_aldI G 0 w0 (w4 + 1)) fun v177 =>
      sd_bnd (fX0_notBefore G w1 v177 w3) fun r178 =>
      sd_bnd (sd_aldI G 0 w0 (w4 + 1)) fun v179 =>
      sd_bnd (sd_isC G 4 w2) fun _ =>
      sd_bnd (fX5_notBefore G w2 v179) fun r180 =>
      sd_bnd (sd_isC G 4 w2) fun _ =>
      sd_bnd (fX5_thrown G w2) fun r181 =>
      if r181 = r178 then (
        if r178 = 0 then (
          sd_bnd (sd_aldL G w3 0) fun v183 =>
          if (lg_cmp v183 (r180.toInt64)) = 0 then (
            sd_bnd (sd_ret (w4 + 6)) fun x184 =>
            k23 (w0, w1, w2, w3, x184))
          else (
            sd_ret 0))
        else (
          sd_bnd (sd_ret (w4 + 6)) fun x182 =>
          k23 (w0, w1, w2, w3, x182)))
      else (
        sd_ret 0))
    else if x6 = 28 then (
      sd_bnd (sd_aldI G 0 w0 (w4 + 1)) fun v185 =>
      sd_bnd (sd_aldI G 0 w0 (w4 + 2)) fun v186 =>
      sd_bnd (fX0_isSeenIn G w1 v185 v186 w3) fun r187 =>
      sd_bnd (sd_aldI G 0 w0 (w4 + 1)) fun v188 =>
      sd_bnd (sd_aldI G 0 w0 (w4 + 2)) fun v189 =>
      sd_bnd (sd_isC G 4 w2) fun _ =>
      sd_bnd (fX5_isSeenIn G w2 v188 v189) fun r190 =>
      sd_bnd (sd_isC G 4 w2) fun _ =>
      sd_bnd (fX5_thrown G w2) fun r191 =>
      if r191 = r187 then (
        if r187 = 0 then (
          sd_bnd (sd_aldL G w3 0) fun v193 =>
          if r190 = 0 then (
            if (lg_cmp v193 0) = 0 then (
              sd_bnd (sd_ret (w4 + 6)) fun x194 =>
              k23 (w0, w1, w2, w3, x194))
            else (
              sd_ret 0))
          else (
            if (lg_cmp v193 1) = 0 then (
              sd_bnd (sd_ret (w4 + 6)) fun x195 =>
              k23 (w0, w1, w2, w3, x195))
            else (
              sd_ret 0)))
        else (
          sd_bnd (sd_ret (w4 + 6)) fun x192 =>
          k23 (w0, w1, w2, w3, x192)))
      else (
        sd_ret 0))
    else if x6 = 29 then (
      sd_bnd (sd_aldI G 0 w0 (w4 + 1)) fun v196 =>
      sd_bnd (fX0_isMixed G w1 v196 w3) fun r197 =>
      sd_bnd (sd_aldI G 0 w0 (w4 + 1)) fun v198 =>
      sd_bnd (sd_isC G 4 w2) fun _ =>
      sd_bnd (fX5_isMixed G w2 v198) fun r199 =>
      sd_bnd (sd_isC G 4 w2) fun _ =>
      sd_bnd (fX5_thrown G w2) fun r200 =>
      if r200 = r197 then (
        if r197 = 0 then (
          sd_bnd (sd_aldL G w3 0) fun v202 =>
          if r199 = 0 then (
            if (lg_cmp v202 0) = 0 then (
              sd_bnd (sd_ret (w4 + 6)) fun x203 =>
              k23 (w0, w1, w2, w3, x203))
            else (
              sd_ret 0))
          else (
            if (lg_cmp v202 1) = 0 then (
              sd_bnd (sd_ret (w4 + 6)) fun x204 =>
              k23 (w0, w1, w2, w3, x204))
            else (
              sd_ret 0)))
        else (
          sd_bnd (sd_ret (w4 + 6)) fun x201 =>
          k23 (w0, w1, w2, w3, x201)))
      else (
        sd_ret 0))
    else if x6 = 30 then (
      sd_bnd (sd_aldI G 0 w0 (w4 + 1)) fun v205 =>
      sd_bnd (fX0_dig G w1 v205 w3) fun r206 =>
      sd_bnd (sd_aldI G 0 w0 (w4 + 1)) fun v207 =>
      sd_bnd (sd_isC G 4 w2) fun _ =>
      sd_bnd (fX5_dig G w2 v207) fun r208 =>
      sd_bnd (sd_isC G 4 w2) fun _ =>
      sd_bnd (fX5_thrown G w2) fun r209 =>
      if r209 = r206 then (
        if r206 = 0 then (
          sd_bnd (sd_aldL G w3 0) fun v211 =>
          if (lg_cmp v211 (r208.toInt64)) = 0 then (
            sd_bnd (sd_ret (w4 + 6)) fun x212 =>
            k23 (w0, w1, w2, w3, x212))
          else (
            sd_ret 0))
        else (
          sd_bnd (sd_ret (w4 + 6)) fun x210 =>
          k23 (w0, w1, w2, w3, x210)))
      else (
        sd_ret 0))
    else if x6 = 31 then (
      sd_bnd (sd_aldI G 0 w0 (w4 + 1)) fun v213 =>
      sd_bnd (fX0_prop G w1 v213 w3) fun r214 =>
      sd_bnd (sd_aldI G 0 w0 (w4 + 1)) fun v215 =>
      sd_bnd (sd_isC G 4 w2) fun _ =>
      sd_bnd (fX5_prop G w2 v215) fun r216 =>
      sd_bnd (sd_isC G 4 w2) fun _ =>
      sd_bnd (fX5_thrown G w2) fun r217 =>
      if r217 = r214 then (
        if r214 = 0 then (
          sd_bnd (sd_aldL G w3 0) fun v219 =>
          if (lg_cmp v219 (r216.toInt64)) = 0 then (
            sd_bnd (sd_ret (w4 + 6)) fun x220 =>
            k23 (w0, w1, w2, w3, x220))
          else (
            sd_ret 0))
        else (
          sd_bnd (sd_ret (w4 + 6)) fun x218 =>
          k23 (w0, w1, w2, w3, x218)))
      else (
        sd_ret 0))
    else if x6 = 32 then (
      sd_bnd (sd_aldI G 0 w0 (w4 + 1)) fun v221 =>
      sd_bnd (fX0_takeProp G w1 v221 w3) fun r222 =>
      sd_bnd (sd_aldI G 0 w0 (w4 + 1)) fun v223 =>
      sd_bnd (sd_isC G 4 w2) fun _ =>
      sd_bnd (fX5_takeProp G w2 v223) fun r224 =>
      sd_bnd (sd_isC G 4 w2) fun _ =>
      sd_bnd (fX5_thrown G w2) fun r225 =>
      if r225 = r222 then (
        if r222 = 0 then (
          sd_bnd (sd_aldL G w3 0) fun v227 =>
          if (lg_cmp v227 (r224.toInt64)) = 0 then (
            sd_bnd (sd_ret (w4 + 6)) fun x228 =>
            k23 (w0, w1, w2, w3, x228))
          else (
            sd_ret 0))
        else (
          sd_bnd (sd_ret (w4 + 6)) fun x226 =>
          k23 (w0, w1, w2, w3, x226)))
      else (
        sd_ret 0))
    else if x6 = 33 then (
      sd_bnd (sd_aldI G 0 w0 (w4 + 1)) fun v229 =>
      sd_bnd (fX0_passDays G w1 v229 w3) fun r230 =>
      sd_bnd (sd_aldI G 0 w0 (w4 + 1)) fun v231 =>
      sd_bnd (sd_isC G 4 w2) fun _ =>
      sd_bnd (fX5_passDays G w2 v231) fun r232 =>
      sd_bnd (sd_isC G 4 w2) fun _ =>
      sd_bnd (fX5_thrown G w2) fun r233 =>
      if r233 = r230 then (
        if r230 = 0 then (
          sd_bnd (sd_aldL G w3 0) fun v235 =>
          if (lg_cmp v235 (r232.toInt64)) = 0 then (
            sd_bnd (sd_ret (w4 + 6)) fun x236 =>
            k23 (w0, w1, w2, w3, x236))
          else (
            sd_ret 0))
        else (
          sd_bnd (sd_ret (w4 + 6)) fun x234 =>
          k23 (w0, w1, w2, w3, x234)))
      else (
        sd_ret 0))
    else if x6 = 34 then (
      sd_bnd (sd_aldI G 0 w0 (w4 + 1)) fun v237 =>
      sd_bnd (fX0_foundAfter G w1 v237 w3) fun r238 =>
      sd_bnd (sd_aldI G 0 w0 (w4 + 1)) fun v239 =>
      sd_bnd (sd_isC G 4 w2) fun _ =>
      sd_bnd (fX5_foundAfter G w2 v239) fun r240 =>
      sd_bnd (sd_isC G 4 w2) fun _ =>
      sd_bnd (fX5_thrown G w2) fun r241 =>
      if r241 = r238 then (
        if r238 = 0 then (
          sd_bnd (sd_aldL G w3 0) fun v243 =>
          if (lg_cmp v243 (r240.toInt64)) = 0 then (
            sd_bnd (sd_ret (w4 + 6)) fun x244 =>
            k23 (w0, w1, w2, w3, x244))
          else (
            sd_ret 0))
        else (
          sd_bnd (sd_ret (w4 + 6)) fun x242 =>
          k23 (w0, w1, w2, w3, x242)))
      else (
        sd_ret 0))
    else if x6 = 35 then (
      sd_bnd (sd_aldI G 0 w0 (w4 + 1)) fun v245 =>
      sd_bnd (fX0_daysUntilFound G w1 v245 w3) fun r246 =>
      sd_bnd (sd_aldI G 0 w0 (w4 + 1)) fun v247 =>
      sd_bnd (sd_isC G 4 w2) fun _ =>
      sd_bnd (fX5_daysUntilFound G w2 v247) fun r248 =>
      sd_bnd (sd_isC G 4 w2) fun _ =>
      sd_bnd (fX5_thrown G w2) fun r249 =>
      if r249 = r246 then (
        if r246 = 0 then (
          sd_bnd (sd_aldL G w3 0) fun v251 =>
          if (lg_cmp v251 (r248.toInt64)) = 0 then (
            sd_bnd (sd_ret (w4 + 6)) fun x252 =>
            k23 (w0, w1, w2, w3, x252))
          else (
            sd_ret 0))
        else (
          sd_bnd (sd_ret (w4 + 6)) fun x250 =>
          k23 (w0, w1, w2, w3, x250)))
      else (
        sd_ret 0))
    else if x6 = 36 then (
      sd_bnd (sd_aldI G 0 w0 (w4 + 1)) fun v253 =>
      sd_bnd (fX0_wouldSlide G w1 v253 w3) fun r254 =>
      sd_bnd (sd_aldI G 0 w0 (w4 + 1)) fun v255 =>
      sd_bnd (sd_isC G 4 w2) fun _ =>
      sd_bnd (fX5_wouldSlide G w2 v255) fun r256 =>
      sd_bnd (sd_isC G 4 w2) fun _ =>
      sd_bnd (fX5_thrown G w2) fun r257 =>
      if r257 = r254 then (
        if r254 = 0 then (
          sd_bnd (sd_aldL G w3 0) fun v259 =>
          if (lg_cmp v259 (r256.toInt64)) = 0 then (
            sd_bnd (sd_ret (w4 + 6)) fun x260 =>
            k23 (w0, w1, w2, w3, x260))
          else (
            sd_ret 0))
        else (
          sd_bnd (sd_ret (w4 + 6)) fun x258 =>
          k23 (w0, w1, w2, w3, x258)))
      else (
        sd_ret 0))
    else if x6 = 37 then (
      sd_bnd (sd_isC G 0 w1) fun _ =>
      sd_bnd (fX1_bestDig G w1) fun r261 =>
      sd_bnd (sd_isC G 4 w2) fun _ =>
      sd_bnd (fX5_bestDig G w2) fun r262 =>
      if r261 = r262 then (
        sd_bnd (sd_ret (w4 + 6)) fun x263 =>
        k23 (w0, w1, w2, w3, x263))
      else (
        sd_ret 0))
    else if x6 = 38 then (
      sd_bnd (sd_isC G 0 w1) fun _ =>
      sd_bnd (fX1_meanYear G w1) fun r264 =>
      sd_bnd (sd_isC G 4 w2) fun _ =>
      sd_bnd (fX5_meanYear G w2) fun r265 =>
      if (Op.cmpValue (FP.dcmp r264 r265) .l) = 0 then (
        sd_bnd (sd_ret (w4 + 6)) fun x266 =>
        k23 (w0, w1, w2, w3, x266))
      else (
        if (Op.cmpValue (FP.dcmp r264 r264) .l) = 0 then (
          sd_ret 0)
        else (
          if (Op.cmpValue (FP.dcmp r265 r265) .l) = 0 then (
            sd_ret 0)
          else (
            sd_bnd (sd_ret (w4 + 6)) fun x267 =>
            k23 (w0, w1, w2, w3, x267)))))
    else if x6 = 39 then (
      sd_bnd (sd_isC G 0 w1) fun _ =>
      sd_bnd (fX1_digest G w1) fun r268 =>
      sd_bnd (sd_isC G 4 w2) fun _ =>
      sd_bnd (fX5_digest G w2) fun r269 =>
      if (lg_cmp r268 r269) = 0 then (
        sd_bnd (sd_ret (w4 + 6)) fun x270 =>
        k23 (w0, w1, w2, w3, x270))
      else (
        sd_ret 0))
    else (
    sd_bnd (sd_ret (w4 + 6)) fun x271 =>
    k23 (w0, w1, w2, w3, x271)))
set_option maxHeartbeats 4000000 in
theorem sL_law_b23 (l : Launch) (hl : l.stackTraces = false) (G : sd_G) (a1 : Nat) (ρ : Int32) (h2 : sd_H) (cT : Nat × Nat) (k23 : Nat × Nat × Nat × Nat × Int32 → sd_M Int32) (Hk23 : ∀ (q : Nat × Nat × Nat × Nat × Int32) (h : sd_H) (c : Nat × Nat), k23 q h = some (ρ, c, h2) → sd_J mL_law ((l, G), (8192, 104096), [.ref a1], (sd_oI ρ, h2), cT) 23 [(0, .ref q.1), (1, .ref q.2.1), (2, .ref q.2.2.1), (3, .ref q.2.2.2.1), (4, .int q.2.2.2.2)] [] h c) (w0 : Nat) (w1 : Nat) (w2 : Nat) (w3 : Nat) (w4 : Int32) (h : sd_H) (c : Nat × Nat) (hf : fL_law_b23 G k23 w0 w1 w2 w3 w4 h = some (ρ, c, h2)) : sd_J mL_law ((l, G), (8192, 104096), [.ref a1], (sd_oI ρ, h2), cT) 23 [(0, .ref w0), (1, .ref w1), (2, .ref w2), (3, .ref w3), (4, .int w4)] [] h c := by
  unfold fL_law_b23 at hf
  refine sj_iload 4 dL_law_23 rfl ?_
  refine sj_aload_n 0 dL_law_25 rfl ?_
  refine sj_alen hf dL_law_26 (fun v4 hf => ?_)
  refine sj_bipush (v := 6) dL_law_27 (by decide) ?_
  refine sj_isub dL_law_29 ?_
  refine sj_icgt 1962 hf dL_law_30 (by decide) (fun g30 hf => ?_) (fun g30 hf => ?_)
  · refine sj_iconst (v := 1) dL_law_1962 (by decide) ?_
    exact sj_zretC (o := sd_oI) (ty := .boolean) rfl hf rfl rfl rfl dL_law_1963
  · refine sj_aload_n 0 dL_law_33 rfl ?_
    refine sj_iload 4 dL_law_34 rfl ?_
    refine sj_iald hf dL_law_36 (fun v5 hf => ?_)
    refine sj_bipush (v := 63) dL_law_37 (by decide) ?_
    refine sj_iand dL_law_39 ?_
    refine sj_nameI hf (fun x6 hf => ?_)
    by_cases e40_0 : x6 = 0
    · rw [if_pos e40_0] at hf
      refine sj_tsw 216 dL_law_40 (k := 0) e40_0 (by decide) (by decide) (by decide) (by decide) ?_
      refine sj_aload_n 1 dL_law_216 rfl ?_
      refine sj_aload_n 0 dL_law_217 rfl ?_
      refine sj_iload 4 dL_law_218 rfl ?_
      refine sj_iconst (v := 1) dL_law_220 (by decide) ?_
      refine sj_iadd dL_law_221 ?_
      refine sj_iald hf dL_law_222 (fun v7 hf => ?_)
      refine sj_aload_n 0 dL_law_223 rfl ?_
      refine sj_iload 4 dL_law_224 rfl ?_
      refine sj_iconst (v := 2) dL_law_226 (by decide) ?_
      refine sj_iadd dL_law_227 ?_
      refine sj_iald hf dL_law_228 (fun v8 hf => ?_)
      refine sj_aload_n 0 dL_law_229 rfl ?_
      refine sj_iload 4 dL_law_230 rfl ?_
      refine sj_iconst (v := 3) dL_law_232 (by decide) ?_
      refine sj_iadd dL_law_233 ?_
      refine sj_iald hf dL_law_234 (fun v9 hf => ?_)
      refine sj_aload_n 0 dL_law_235 rfl ?_
      refine sj_iload 4 dL_law_236 rfl ?_
      refine sj_iconst (v := 4) dL_law_238 (by decide) ?_
      refine sj_iadd dL_law_239 ?_
      refine sj_iald hf dL_law_240 (fun v10 hf => ?_)
      refine sj_aload_n 0 dL_law_241 rfl ?_
      refine sj_iload 4 dL_law_242 rfl ?_
      refine sj_iconst (v := 5) dL_law_244 (by decide) ?_
      refine sj_iadd dL_law_245 ?_
      refine sj_iald hf dL_law_246 (fun v11 hf => ?_)
      refine sj_aload_n 3 dL_law_247 rfl ?_
      refine sj_cI (rest := []) (fun _ _ _ e => sj_runSW (n := 7) (rest := []) (sX0_feed l hl G w1 v7 v8 v9 v10 v11 w3 h _ _ _ e) rfl rfl q2312 q2313 q115 q2314 (by decide +kernel) rfl ⟨Nat.le_of_ble_eq_true rfl, Nat.le_of_ble_eq_true rfl⟩ rfl (Nat.le_of_ble_eq_true rfl) dL_law_248) hf (fun r12 h c hf => ?_)
      refine sj_istore [(5, .int r12), (0, .ref w0), (1, .ref w1), (2, .ref w2), (3, .ref w3), (4, .int w4)] dL_law_251 (by decide) rfl ?_
      refine sj_aload_n 3 dL_law_253 rfl ?_
      refine sj_aload_n 1 dL_law_254 rfl ?_
      refine sj_iload 5 dL_law_255 rfl ?_
      refine sj_iconst (v := 1) dL_law_257 (by decide) ?_
      refine sj_iadd dL_law_258 ?_
      refine sj_iald hf dL_law_259 (fun v13 hf => ?_)
      refine sj_aload_n 1 dL_law_260 rfl ?_
      refine sj_iload 5 dL_law_261 rfl ?_
      refine sj_iconst (v := 2) dL_law_263 (by decide) ?_
      refine sj_iadd dL_law_264 ?_
      refine sj_iald hf dL_law_265 (fun v14 hf => ?_)
      refine sj_aload_n 1 dL_law_266 rfl ?_
      refine sj_iload 5 dL_law_267 rfl ?_
      refine sj_iconst (v := 3) dL_law_269 (by decide) ?_
      refine sj_iadd dL_law_270 ?_
      refine sj_iald hf dL_law_271 (fun v15 hf => ?_)
      refine sj_aload_n 1 dL_law_272 rfl ?_
      refine sj_iload 5 dL_law_273 rfl ?_
      refine sj_iconst (v := 4) dL_law_275 (by decide) ?_
      refine sj_iadd dL_law_276 ?_
      refine sj_iald hf dL_law_277 (fun v16 hf => ?_)
      refine sj_aload_n 1 dL_law_278 rfl ?_
      refine sj_iload 5 dL_law_279 rfl ?_
      refine sj_iconst (v := 5) dL_law_281 (by decide) ?_
      refine sj_iadd dL_law_282 ?_
      refine sj_iald hf dL_law_283 (fun v17 hf => ?_)
      obtain ⟨fs284, he284, hf⟩ := sd_isC_some hf
      refine sj_cI (rest := []) (fun _ _ _ e => sj_runV (n := 5) (As := [.int v13, .int v14, .int v15, .int v16, .int v17]) (rest := []) (sX5_feed l G w2 v13 v14 v15 v16 v17 h _ _ _ e) he284 rfl rfl rfl rfl q2909 q2910 q2911 q127 q2912 (by decide +kernel) rfl rfl ⟨Nat.le_of_ble_eq_true rfl, Nat.le_of_ble_eq_true rfl⟩ rfl (Nat.le_of_ble_eq_true rfl) dL_law_284) hf (fun r18 h c hf => ?_)
      refine sj_istore [(6, .int r18), (5, .int r12), (0, .ref w0), (1, .ref w1), (2, .ref w2), (3, .ref w3), (4, .int w4)] dL_law_287 (by decide) rfl ?_
      refine sj_aload_n 4 dL_law_289 rfl ?_
      obtain ⟨fs290, he290, hf⟩ := sd_isC_some hf
      refine sj_cI (rest := []) (fun _ _ _ e => sj_runV (n := 0) (As := []) (rest := []) (sX5_thrown l G w2 h _ _ _ e) he290 rfl rfl rfl rfl q2905 q2906 q2907 q127 q2908 (by decide +kernel) rfl rfl ⟨Nat.le_of_ble_eq_true rfl, Nat.le_of_ble_eq_true rfl⟩ rfl (Nat.le_of_ble_eq_true rfl) dL_law_290) hf (fun r19 h c hf => ?_)
      refine sj_iload 1 dL_law_293 rfl ?_
      refine sj_iceq 300 hf dL_law_295 (by decide) (fun g295 hf => ?_) (fun g295 hf => ?_)
      · refine sj_iload 1 dL_law_300 rfl ?_
        refine sj_ifne 317 hf dL_law_302 (by decide) (fun g302 hf => ?_) (fun g302 hf => ?_)
        · refine sj_goto 1956 dL_law_317 (by decide) ?_
          refine sj_iincN 6 (fun x20 => [(4, .int x20), (6, .int r18), (5, .int r12), (0, .ref w0), (1, .ref w1), (2, .ref w2), (3, .ref w3)]) 6 hf dL_law_1956 rfl (by decide) (by decide) (fun _ => rfl) (fun x20 hf => ?_)
          refine sj_goto 23 dL_law_1959 (by decide) ?_
          exact sj_loc [3, 4, 5, 6, 0] rfl (Hk23 (w0, w1, w2, w3, x20) _ _ hf)
        · refine sj_aload_n 5 dL_law_305 rfl ?_
          refine sj_iconst (v := 0) dL_law_306 (by decide) ?_
          refine sj_lald hf dL_law_307 (fun v21 hf => ?_)
          refine sj_iload 0 dL_law_308 rfl ?_
          refine sj_i2l dL_law_310 ?_
          refine sj_lcmp dL_law_311 ?_
          refine sj_ifeq 317 hf dL_law_312 (by decide) (fun g312 hf => ?_) (fun g312 hf => ?_)
          · refine sj_goto 1956 dL_law_317 (by decide) ?_
            refine sj_iincN 6 (fun x22 => [(4, .int x22), (6, .int r18), (5, .int r12), (0, .ref w0), (1, .ref w1), (2, .ref w2), (3, .ref w3)]) 6 hf dL_law_1956 rfl (by decide) (by decide) (fun _ => rfl) (fun x22 hf => ?_)
            refine sj_goto 23 dL_law_1959 (by decide) ?_
            exact sj_loc [3, 4, 5, 6, 0] rfl (Hk23 (w0, w1, w2, w3, x22) _ _ hf)
          · refine sj_iconst (v := 0) dL_law_315 (by decide) ?_
            exact sj_zretC (o := sd_oI) (ty := .boolean) rfl hf rfl rfl rfl dL_law_316
      · refine sj_iconst (v := 0) dL_law_298 (by decide) ?_
        exact sj_zretC (o := sd_oI) (ty := .boolean) rfl hf rfl rfl rfl dL_law_299
    rw [if_neg e40_0] at hf
    by_cases e40_1 : x6 = 1
    · rw [if_pos e40_1] at hf
      refine sj_tsw 320 dL_law_40 (k := 1) e40_1 (by decide) (by decide) (by decide) (by decide) ?_
      refine sj_aload_n 1 dL_law_320 rfl ?_
      refine sj_aload_n 0 dL_law_321 rfl ?_
      refine sj_iload 4 dL_law_322 rfl ?_
      refine sj_iconst (v := 1) dL_law_324 (by decide) ?_
      refine sj_iadd dL_law_325 ?_
      refine sj_iald hf dL_law_326 (fun v23 hf => ?_)
      refine sj_aload_n 3 dL_law_327 rfl ?_
      refine sj_cI (rest := []) (fun _ _ _ e => sj_runSW (n := 3) (rest := []) (sX0_trim l hl G w1 v23 w3 h _ _ _ e) rfl rfl q2345 q2346 q115 q2347 (by decide +kernel) rfl ⟨Nat.le_of_ble_eq_true rfl, Nat.le_of_ble_eq_true rfl⟩ rfl (Nat.le_of_ble_eq_true rfl) dL_law_328) hf (fun r24 h c hf => ?_)
      refine sj_istore [(5, .int r24), (0, .ref w0), (1, .ref w1), (2, .ref w2), (3, .ref w3), (4, .int w4)] dL_law_331 (by decide) rfl ?_
      refine sj_aload_n 3 dL_law_333 rfl ?_
      refine sj_aload_n 1 dL_law_334 rfl ?_
      refine sj_iload 5 dL_law_335 rfl ?_
      refine sj_iconst (v := 1) dL_law_337 (by decide) ?_
      refine sj_iadd dL_law_338 ?_
      refine sj_iald hf dL_law_339 (fun v25 hf => ?_)
      obtain ⟨fs340, he340, hf⟩ := sd_isC_some hf
      refine sj_cI (rest := []) (fun _ _ _ e => sj_runV (n := 1) (As := [.int v25]) (rest := []) (sX5_trim l G w2 v25 h _ _ _ e) he340 rfl rfl rfl rfl q2917 q2918 q2919 q127 q2920 (by decide +kernel) rfl rfl ⟨Nat.le_of_ble_eq_true rfl, Nat.le_of_ble_eq_true rfl⟩ rfl (Nat.le_of_ble_eq_true rfl) dL_law_340) hf (fun r26 h c hf => ?_)
      refine sj_istore [(6, .int r26), (5, .int r24), (0, .ref w0), (1, .ref w1), (2, .ref w2), (3, .ref w3), (4, .int w4)] dL_law_343 (by decide) rfl ?_
      refine sj_aload_n 4 dL_law_345 rfl ?_
      obtain ⟨fs346, he346, hf⟩ := sd_isC_some hf
      refine sj_cI (rest := []) (fun _ _ _ e => sj_runV (n := 0) (As := []) (rest := []) (sX5_thrown l G w2 h _ _ _ e) he346 rfl rfl rfl rfl q2905 q2906 q2907 q127 q2908 (by decide +kernel) rfl rfl ⟨Nat.le_of_ble_eq_true rfl, Nat.le_of_ble_eq_true rfl⟩ rfl (Nat.le_of_ble_eq_true rfl) dL_law_346) hf (fun r27 h c hf => ?_)
      refine sj_iload 1 dL_law_349 rfl ?_
      refine sj_iceq 356 hf dL_law_351 (by decide) (fun g351 hf => ?_) (fun g351 hf => ?_)
      · refine sj_iload 1 dL_law_356 rfl ?_
        refine sj_ifne 373 hf dL_law_358 (by decide) (fun g358 hf => ?_) (fun g358 hf => ?_)
        · refine sj_goto 1956 dL_law_373 (by decide) ?_
          refine sj_iincN 6 (fun x28 => [(4, .int x28), (6, .int r26), (5, .int r24), (0, .ref w0), (1, .ref w1), (2, .ref w2), (3, .ref w3)]) 6 hf dL_law_1956 rfl (by decide) (by decide) (fun _ => rfl) (fun x28 hf => ?_)
          refine sj_goto 23 dL_law_1959 (by decide) ?_
          exact sj_loc [3, 4, 5, 6, 0] rfl (Hk23 (w0, w1, w2, w3, x28) _ _ hf)
        · refine sj_aload_n 5 dL_law_361 rfl ?_
          refine sj_iconst (v := 0) dL_law_362 (by decide) ?_
          refine sj_lald hf dL_law_363 (fun v29 hf => ?_)
          refine sj_iload 0 dL_law_364 rfl ?_
          refine sj_i2l dL_law_366 ?_
          refine sj_lcmp dL_law_367 ?_
          refine sj_ifeq 373 hf dL_law_368 (by decide) (fun g368 hf => ?_) (fun g368 hf => ?_)
          · refine sj_goto 1956 dL_law_373 (by decide) ?_
            refine sj_iincN 6 (fun x30 => [(4, .int x30), (6, .int r26), (5, .int r24), (0, .ref w0), (1, .ref w1), (2, .ref w2), (3, .ref w3)]) 6 hf dL_law_1956 rfl (by decide) (by decide) (fun _ => rfl) (fun x30 hf => ?_)
            refine sj_goto 23 dL_law_1959 (by decide) ?_
            exact sj_loc [3, 4, 5, 6, 0] rfl (Hk23 (w0, w1, w2, w3, x30) _ _ hf)
          · refine sj_iconst (v := 0) dL_law_371 (by decide) ?_
            exact sj_zretC (o := sd_oI) (ty := .boolean) rfl hf rfl rfl rfl dL_law_372
      · refine sj_iconst (v := 0) dL_law_354 (by decide) ?_
        exact sj_zretC (o := sd_oI) (ty := .boolean) rfl hf rfl rfl rfl dL_law_355
    rw [if_neg e40_1] at hf
    by_cases e40_2 : x6 = 2
    · rw [if_pos e40_2] at hf
      refine sj_tsw 376 dL_law_40 (k := 2) e40_2 (by decide) (by decide) (by decide) (by decide) ?_
      refine sj_aload_n 1 dL_law_376 rfl ?_
      obtain ⟨fs377, he377, hf⟩ := sd_isC_some hf
      refine sj_cI (rest := []) (fun _ _ _ e => sj_runVW (n := 0) (As := []) (rest := []) (sX1_teach l hl G w1 h _ _ _ e) he377 rfl rfl rfl rfl q452 q453 q454 q116 q455 (by decide +kernel) rfl rfl ⟨Nat.le_of_ble_eq_true rfl, Nat.le_of_ble_eq_true rfl⟩ rfl (Nat.le_of_ble_eq_true rfl) dL_law_377) hf (fun r31 h c hf => ?_)
      refine sj_aload_n 2 dL_law_380 rfl ?_
      obtain ⟨fs381, he381, hf⟩ := sd_isC_some hf
      refine sj_cI (rest := [.int r31]) (fun _ _ _ e => sj_runV (n := 0) (As := []) (rest := [.int r31]) (sX5_teach l G w2 h _ _ _ e) he381 rfl rfl rfl rfl q2924 q2925 q2926 q127 q2927 (by decide +kernel) rfl rfl ⟨Nat.le_of_ble_eq_true rfl, Nat.le_of_ble_eq_true rfl⟩ rfl (Nat.le_of_ble_eq_true rfl) dL_law_381) hf (fun r32 h c hf => ?_)
      refine sj_iceq 1956 hf dL_law_384 (by decide) (fun g384 hf => ?_) (fun g384 hf => ?_)
      · refine sj_iincN 4 (fun x33 => [(4, .int x33), (0, .ref w0), (1, .ref w1), (2, .ref w2), (3, .ref w3)]) 6 hf dL_law_1956 rfl (by decide) (by decide) (fun _ => rfl) (fun x33 hf => ?_)
        refine sj_goto 23 dL_law_1959 (by decide) ?_
        exact sj_loc [1, 2, 3, 4, 0] rfl (Hk23 (w0, w1, w2, w3, x33) _ _ hf)
      · refine sj_iconst (v := 0) dL_law_387 (by decide) ?_
        exact sj_zretC (o := sd_oI) (ty := .boolean) rfl hf rfl rfl rfl dL_law_388
    rw [if_neg e40_2] at hf
    by_cases e40_3 : x6 = 3
    · rw [if_pos e40_3] at hf
      refine sj_tsw 389 dL_law_40 (k := 3) e40_3 (by decide) (by decide) (by decide) (by decide) ?_
      refine sj_aload_n 1 dL_law_389 rfl ?_
      obtain ⟨fs390, he390, hf⟩ := sd_isC_some hf
      refine sj_cI (rest := []) (fun _ _ _ e => sj_runV (n := 0) (As := []) (rest := []) (sX1_errorAt l G w1 h _ _ _ e) he390 rfl rfl rfl rfl q2088 q2089 q2090 q116 q2091 (by decide +kernel) rfl rfl ⟨Nat.le_of_ble_eq_true rfl, Nat.le_of_ble_eq_true rfl⟩ rfl (Nat.le_of_ble_eq_true rfl) dL_law_390) hf (fun r34 h c hf => ?_)
      refine sj_aload_n 2 dL_law_393 rfl ?_
      obtain ⟨fs394, he394, hf⟩ := sd_isC_some hf
      refine sj_cI (rest := [.int r34]) (fun _ _ _ e => sj_runV (n := 0) (As := []) (rest := [.int r34]) (sX5_errorAt l G w2 h _ _ _ e) he394 rfl rfl rfl rfl q3109 q3110 q3111 q127 q3112 (by decide +kernel) rfl rfl ⟨Nat.le_of_ble_eq_true rfl, Nat.le_of_ble_eq_true rfl⟩ rfl (Nat.le_of_ble_eq_true rfl) dL_law_394) hf (fun r35 h c hf => ?_)
      refine sj_iceq 1956 hf dL_law_397 (by decide) (fun g397 hf => ?_) (fun g397 hf => ?_)
      · refine sj_iincN 4 (fun x36 => [(4, .int x36), (0, .ref w0), (1, .ref w1), (2, .ref w2), (3, .ref w3)]) 6 hf dL_law_1956 rfl (by decide) (by decide) (fun _ => rfl) (fun x36 hf => ?_)
        refine sj_goto 23 dL_law_1959 (by decide) ?_
        exact sj_loc [1, 2, 3, 4, 0] rfl (Hk23 (w0, w1, w2, w3, x36) _ _ hf)
      · refine sj_iconst (v := 0) dL_law_400 (by decide) ?_
        exact sj_zretC (o := sd_oI) (ty := .boolean) rfl hf rfl rfl rfl dL_law_401
    rw [if_neg e40_3] at hf
    by_cases e40_4 : x6 = 4
    · rw [if_pos e40_4] at hf
      refine sj_tsw 402 dL_law_40 (k := 4) e40_4 (by decide) (by decide) (by decide) (by decide) ?_
      refine sj_aload_n 1 dL_law_402 rfl ?_
      obtain ⟨fs403, he403, hf⟩ := sd_isC_some hf
      refine sj_cI (rest := []) (fun _ _ _ e => sj_runV (n := 0) (As := []) (rest := []) (sX1_seats l G w1 h _ _ _ e) he403 rfl rfl rfl rfl q2092 q2093 q2094 q116 q2095 (by decide +kernel) rfl rfl ⟨Nat.le_of_ble_eq_true rfl, Nat.le_of_ble_eq_true rfl⟩ rfl (Nat.le_of_ble_eq_true rfl) dL_law_403) hf (fun r37 h c hf => ?_)
      refine sj_aload_n 2 dL_law_406 rfl ?_
      obtain ⟨fs407, he407, hf⟩ := sd_isC_some hf
      refine sj_cI (rest := [.int r37]) (fun _ _ _ e => sj_runV (n := 0) (As := []) (rest := [.int r37]) (sX5_seats l G w2 h _ _ _ e) he407 rfl rfl rfl rfl q3117 q3118 q3119 q127 q3120 (by decide +kernel) rfl rfl ⟨Nat.le_of_ble_eq_true rfl, Nat.le_of_ble_eq_true rfl⟩ rfl (Nat.le_of_ble_eq_true rfl) dL_law_407) hf (fun r38 h c hf => ?_)
      refine sj_iceq 1956 hf dL_law_410 (by decide) (fun g410 hf => ?_) (fun g410 hf => ?_)
      · refine sj_iincN 4 (fun x39 => [(4, .int x39), (0, .ref w0), (1, .ref w1), (2, .ref w2), (3, .ref w3)]) 6 hf dL_law_1956 rfl (by decide) (by decide) (fun _ => rfl) (fun x39 hf => ?_)
        refine sj_goto 23 dL_law_1959 (by decide) ?_
        exact sj_loc [1, 2, 3, 4, 0] rfl (Hk23 (w0, w1, w2, w3, x39) _ _ hf)
      · refine sj_iconst (v := 0) dL_law_413 (by decide) ?_
        exact sj_zretC (o := sd_oI) (ty := .boolean) rfl hf rfl rfl rfl dL_law_414
    rw [if_neg e40_4] at hf
    by_cases e40_5 : x6 = 5
    · rw [if_pos e40_5] at hf
      refine sj_tsw 415 dL_law_40 (k := 5) e40_5 (by decide) (by decide) (by decide) (by decide) ?_
      refine sj_aload_n 1 dL_law_415 rfl ?_
      obtain ⟨fs416, he416, hf⟩ := sd_isC_some hf
      refine sj_cI (rest := []) (fun _ _ _ e => sj_runV (n := 0) (As := []) (rest := []) (sX1_strata l G w1 h _ _ _ e) he416 rfl rfl rfl rfl q2096 q2097 q2098 q116 q2099 (by decide +kernel) rfl rfl ⟨Nat.le_of_ble_eq_true rfl, Nat.le_of_ble_eq_true rfl⟩ rfl (Nat.le_of_ble_eq_true rfl) dL_law_416) hf (fun r40 h c hf => ?_)
      refine sj_aload_n 2 dL_law_419 rfl ?_
      obtain ⟨fs420, he420, hf⟩ := sd_isC_some hf
      refine sj_cI (rest := [.int r40]) (fun _ _ _ e => sj_runV (n := 0) (As := []) (rest := [.int r40]) (sX5_strata l G w2 h _ _ _ e) he420 rfl rfl rfl rfl q3121 q3122 q3123 q127 q3124 (by decide +kernel) rfl rfl ⟨Nat.le_of_ble_eq_true rfl, Nat.le_of_ble_eq_true rfl⟩ rfl (Nat.le_of_ble_eq_true rfl) dL_law_420) hf (fun r41 h c hf => ?_)
      refine sj_iceq 1956 hf dL_law_423 (by decide) (fun g423 hf => ?_) (fun g423 hf => ?_)
      · refine sj_iincN 4 (fun x42 => [(4, .int x42), (0, .ref w0), (1, .ref w1), (2, .ref w2), (3, .ref w3)]) 6 hf dL_law_1956 rfl (by decide) (by decide) (fun _ => rfl) (fun x42 hf => ?_)
        refine sj_goto 23 dL_law_1959 (by decide) ?_
        exact sj_loc [1, 2, 3, 4, 0] rfl (Hk23 (w0, w1, w2, w3, x42) _ _ hf)
      · refine sj_iconst (v := 0) dL_law_426 (by decide) ?_
        exact sj_zretC (o := sd_oI) (ty := .boolean) rfl hf rfl rfl rfl dL_law_427
    rw [if_neg e40_5] at hf
    by_cases e40_6 : x6 = 6
    · rw [if_pos e40_6] at hf
      refine sj_tsw 428 dL_law_40 (k := 6) e40_6 (by decide) (by decide) (by decide) (by decide) ?_
      refine sj_aload_n 1 dL_law_428 rfl ?_
      obtain ⟨fs429, he429, hf⟩ := sd_isC_some hf
      refine sj_cI (rest := []) (fun _ _ _ e => sj_runV (n := 0) (As := []) (rest := []) (sX1_finds l G w1 h _ _ _ e) he429 rfl rfl rfl rfl q2100 q2101 q2102 q116 q2103 (by decide +kernel) rfl rfl ⟨Nat.le_of_ble_eq_true rfl, Nat.le_of_ble_eq_true rfl⟩ rfl (Nat.le_of_ble_eq_true rfl) dL_law_429) hf (fun r43 h c hf => ?_)
      refine sj_aload_n 2 dL_law_432 rfl ?_
      obtain ⟨fs433, he433, hf⟩ := sd_isC_some hf
      refine sj_cI (rest := [.int r43]) (fun _ _ _ e => sj_runV (n := 0) (As := []) (rest := [.int r43]) (sX5_finds l G w2 h _ _ _ e) he433 rfl rfl rfl rfl q3125 q3126 q3127 q127 q3128 (by decide +kernel) rfl rfl ⟨Nat.le_of_ble_eq_true rfl, Nat.le_of_ble_eq_true rfl⟩ rfl (Nat.le_of_ble_eq_true rfl) dL_law_433) hf (fun r44 h c hf => ?_)
      refine sj_iceq 1956 hf dL_law_436 (by decide) (fun g436 hf => ?_) (fun g436 hf => ?_)
      · refine sj_iincN 4 (fun x45 => [(4, .int x45), (0, .ref w0), (1, .ref w1), (2, .ref w2), (3, .ref w3)]) 6 hf dL_law_1956 rfl (by decide) (by decide) (fun _ => rfl) (fun x45 hf => ?_)
        refine sj_goto 23 dL_law_1959 (by decide) ?_
        exact sj_loc [1, 2, 3, 4, 0] rfl (Hk23 (w0, w1, w2, w3, x45) _ _ hf)
      · refine sj_iconst (v := 0) dL_law_439 (by decide) ?_
        exact sj_zretC (o := sd_oI) (ty := .boolean) rfl hf rfl rfl rfl dL_law_440
    rw [if_neg e40_6] at hf
    by_cases e40_7 : x6 = 7
    · rw [if_pos e40_7] at hf
      refine sj_tsw 441 dL_law_40 (k := 7) e40_7 (by decide) (by decide) (by decide) (by decide) ?_
      refine sj_aload_n 1 dL_law_441 rfl ?_
      obtain ⟨fs442, he442, hf⟩ := sd_isC_some hf
      refine sj_cI (rest := []) (fun _ _ _ e => sj_runV (n := 0) (As := []) (rest := []) (sX1_days l G w1 h _ _ _ e) he442 rfl rfl rfl rfl q2105 q2106 q2107 q116 q2108 (by decide +kernel) rfl rfl ⟨Nat.le_of_ble_eq_true rfl, Nat.le_of_ble_eq_true rfl⟩ rfl (Nat.le_of_ble_eq_true rfl) dL_law_442) hf (fun r46 h c hf => ?_)
      refine sj_aload_n 2 dL_law_445 rfl ?_
      obtain ⟨fs446, he446, hf⟩ := sd_isC_some hf
      refine sj_cI (rest := [.int r46]) (fun _ _ _ e => sj_runV (n := 0) (As := []) (rest := [.int r46]) (sX5_days l G w2 h _ _ _ e) he446 rfl rfl rfl rfl q3129 q3130 q3131 q127 q3132 (by decide +kernel) rfl rfl ⟨Nat.le_of_ble_eq_true rfl, Nat.le_of_ble_eq_true rfl⟩ rfl (Nat.le_of_ble_eq_true rfl) dL_law_446) hf (fun r47 h c hf => ?_)
      refine sj_iceq 1956 hf dL_law_449 (by decide) (fun g449 hf => ?_) (fun g449 hf => ?_)
      · refine sj_iincN 4 (fun x48 => [(4, .int x48), (0, .ref w0), (1, .ref w1), (2, .ref w2), (3, .ref w3)]) 6 hf dL_law_1956 rfl (by decide) (by decide) (fun _ => rfl) (fun x48 hf => ?_)
        refine sj_goto 23 dL_law_1959 (by decide) ?_
        exact sj_loc [1, 2, 3, 4, 0] rfl (Hk23 (w0, w1, w2, w3, x48) _ _ hf)
      · refine sj_iconst (v := 0) dL_law_452 (by decide) ?_
        exact sj_zretC (o := sd_oI) (ty := .boolean) rfl hf rfl rfl rfl dL_law_453
    rw [if_neg e40_7] at hf
    by_cases e40_8 : x6 = 8
    · rw [if_pos e40_8] at hf
      refine sj_tsw 454 dL_law_40 (k := 8) e40_8 (by decide) (by decide) (by decide) (by decide) ?_
      refine sj_aload_n 1 dL_law_454 rfl ?_
      obtain ⟨fs455, he455, hf⟩ := sd_isC_some hf
      refine sj_cI (rest := []) (fun _ _ _ e => sj_runV (n := 0) (As := []) (rest := []) (sX1_ordersCarriedOut l G w1 h _ _ _ e) he455 rfl rfl rfl rfl q2109 q2110 q2111 q116 q2112 (by decide +kernel) rfl rfl ⟨Nat.le_of_ble_eq_true rfl, Nat.le_of_ble_eq_true rfl⟩ rfl (Nat.le_of_ble_eq_true rfl) dL_law_455) hf (fun r49 h c hf => ?_)
      refine sj_aload_n 2 dL_law_458 rfl ?_
      obtain ⟨fs459, he459, hf⟩ := sd_isC_some hf
      refine sj_cI (rest := [.int r49]) (fun _ _ _ e => sj_runV (n := 0) (As := []) (rest := [.int r49]) (sX5_ordersCarriedOut l G w2 h _ _ _ e) he459 rfl rfl rfl rfl q3133 q3134 q3135 q127 q3136 (by decide +kernel) rfl rfl ⟨Nat.le_of_ble_eq_true rfl, Nat.le_of_ble_eq_true rfl⟩ rfl (Nat.le_of_ble_eq_true rfl) dL_law_459) hf (fun r50 h c hf => ?_)
      refine sj_iceq 1956 hf dL_law_462 (by decide) (fun g462 hf => ?_) (fun g462 hf => ?_)
      · refine sj_iincN 4 (fun x51 => [(4, .int x51), (0, .ref w0), (1, .ref w1), (2, .ref w2), (3, .ref w3)]) 6 hf dL_law_1956 rfl (by decide) (by decide) (fun _ => rfl) (fun x51 hf => ?_)
        refine sj_goto 23 dL_law_1959 (by decide) ?_
        exact sj_loc [1, 2, 3, 4, 0] rfl (Hk23 (w0, w1, w2, w3, x51) _ _ hf)
      · refine sj_iconst (v := 0) dL_law_465 (by decide) ?_
        exact sj_zretC (o := sd_oI) (ty := .boolean) rfl hf rfl rfl rfl dL_law_466
    rw [if_neg e40_8] at hf
    by_cases e40_9 : x6 = 9
    · rw [if_pos e40_9] at hf
      refine sj_tsw 467 dL_law_40 (k := 9) e40_9 (by decide) (by decide) (by decide) (by decide) ?_
      refine sj_aload_n 1 dL_law_467 rfl ?_
      obtain ⟨fs468, he468, hf⟩ := sd_isC_some hf
      refine sj_cI (rest := []) (fun _ _ _ e => sj_runV (n := 0) (As := []) (rest := []) (sX1_cushionsDug l G w1 h _ _ _ e) he468 rfl rfl rfl rfl q2113 q2114 q2115 q116 q2116 (by decide +kernel) rfl rfl ⟨Nat.le_of_ble_eq_true rfl, Nat.le_of_ble_eq_true rfl⟩ rfl (Nat.le_of_ble_eq_true rfl) dL_law_468) hf (fun r52 h c hf => ?_)
      refine sj_aload_n 2 dL_law_471 rfl ?_
      obtain ⟨fs472, he472, hf⟩ := sd_isC_some hf
      refine sj_cI (rest := [.int r52]) (fun _ _ _ e => sj_runV (n := 0) (As := []) (rest := [.int r52]) (sX5_cushionsDug l G w2 h _ _ _ e) he472 rfl rfl rfl rfl q3137 q3138 q3139 q127 q3140 (by decide +kernel) rfl rfl ⟨Nat.le_of_ble_eq_true rfl, Nat.le_of_ble_eq_true rfl⟩ rfl (Nat.le_of_ble_eq_true rfl) dL_law_472) hf (fun r53 h c hf => ?_)
      refine sj_iceq 1956 hf dL_law_475 (by decide) (fun g475 hf => ?_) (fun g475 hf => ?_)
      · refine sj_iincN 4 (fun x54 => [(4, .int x54), (0, .ref w0), (1, .ref w1), (2, .ref w2), (3, .ref w3)]) 6 hf dL_law_1956 rfl (by decide) (by decide) (fun _ => rfl) (fun x54 hf => ?_)
        refine sj_goto 23 dL_law_1959 (by decide) ?_
        exact sj_loc [1, 2, 3, 4, 0] rfl (Hk23 (w0, w1, w2, w3, x54) _ _ hf)
      · refine sj_iconst (v := 0) dL_law_478 (by decide) ?_
        exact sj_zretC (o := sd_oI) (ty := .boolean) rfl hf rfl rfl rfl dL_law_479
    rw [if_neg e40_9] at hf
    by_cases e40_10 : x6 = 10
    · rw [if_pos e40_10] at hf
      refine sj_tsw 480 dL_law_40 (k := 10) e40_10 (by decide) (by decide) (by decide) (by decide) ?_
      refine sj_aload_n 1 dL_law_480 rfl ?_
      obtain ⟨fs481, he481, hf⟩ := sd_isC_some hf
      refine sj_cI (rest := []) (fun _ _ _ e => sj_runV (n := 0) (As := []) (rest := []) (sX1_slides l G w1 h _ _ _ e) he481 rfl rfl rfl rfl q2117 q2118 q2119 q116 q2120 (by decide +kernel) rfl rfl ⟨Nat.le_of_ble_eq_true rfl, Nat.le_of_ble_eq_true rfl⟩ rfl (Nat.le_of_ble_eq_true rfl) dL_law_481) hf (fun r55 h c hf => ?_)
      refine sj_aload_n 2 dL_law_484 rfl ?_
      obtain ⟨fs485, he485, hf⟩ := sd_isC_some hf
      refine sj_cI (rest := [.int r55]) (fun _ _ _ e => sj_runV (n := 0) (As := []) (rest := [.int r55]) (sX5_slides l G w2 h _ _ _ e) he485 rfl rfl rfl rfl q3141 q3142 q3143 q127 q3144 (by decide +kernel) rfl rfl ⟨Nat.le_of_ble_eq_true rfl, Nat.le_of_ble_eq_true rfl⟩ rfl (Nat.le_of_ble_eq_true rfl) dL_law_485) hf (fun r56 h c hf => ?_)
      refine sj_iceq 1956 hf dL_law_488 (by decide) (fun g488 hf => ?_) (fun g488 hf => ?_)
      · refine sj_iincN 4 (fun x57 => [(4, .int x57), (0, .ref w0), (1, .ref w1), (2, .ref w2), (3, .ref w3)]) 6 hf dL_law_1956 rfl (by decide) (by decide) (fun _ => rfl) (fun x57 hf => ?_)
        refine sj_goto 23 dL_law_1959 (by decide) ?_
        exact sj_loc [1, 2, 3, 4, 0] rfl (Hk23 (w0, w1, w2, w3, x57) _ _ hf)
      · refine sj_iconst (v := 0) dL_law_491 (by decide) ?_
        exact sj_zretC (o := sd_oI) (ty := .boolean) rfl hf rfl rfl rfl dL_law_492
    rw [if_neg e40_10] at hf
    by_cases e40_11 : x6 = 11
    · rw [if_pos e40_11] at hf
      refine sj_tsw 493 dL_law_40 (k := 11) e40_11 (by decide) (by decide) (by decide) (by decide) ?_
      refine sj_aload_n 1 dL_law_493 rfl ?_
      obtain ⟨fs494, he494, hf⟩ := sd_isC_some hf
      refine sj_cI (rest := []) (fun _ _ _ e => sj_runV (n := 0) (As := []) (rest := []) (sX1_found l G w1 h _ _ _ e) he494 rfl rfl rfl rfl q2121 q2122 q2123 q116 q2124 (by decide +kernel) rfl rfl ⟨Nat.le_of_ble_eq_true rfl, Nat.le_of_ble_eq_true rfl⟩ rfl (Nat.le_of_ble_eq_true rfl) dL_law_494) hf (fun r58 h c hf => ?_)
      refine sj_aload_n 2 dL_law_497 rfl ?_
      obtain ⟨fs498, he498, hf⟩ := sd_isC_some hf
      refine sj_cI (rest := [.int r58]) (fun _ _ _ e => sj_runV (n := 0) (As := []) (rest := [.int r58]) (sX5_found l G w2 h _ _ _ e) he498 rfl rfl rfl rfl q3145 q3146 q3147 q127 q3148 (by decide +kernel) rfl rfl ⟨Nat.le_of_ble_eq_true rfl, Nat.le_of_ble_eq_true rfl⟩ rfl (Nat.le_of_ble_eq_true rfl) dL_law_498) hf (fun r59 h c hf => ?_)
      refine sj_iceq 1956 hf dL_law_501 (by decide) (fun g501 hf => ?_) (fun g501 hf => ?_)
      · refine sj_iincN 4 (fun x60 => [(4, .int x60), (0, .ref w0), (1, .ref w1), (2, .ref w2), (3, .ref w3)]) 6 hf dL_law_1956 rfl (by decide) (by decide) (fun _ => rfl) (fun x60 hf => ?_)
        refine sj_goto 23 dL_law_1959 (by decide) ?_
        exact sj_loc [1, 2, 3, 4, 0] rfl (Hk23 (w0, w1, w2, w3, x60) _ _ hf)
      · refine sj_iconst (v := 0) dL_law_504 (by decide) ?_
        exact sj_zretC (o := sd_oI) (ty := .boolean) rfl hf rfl rfl rfl dL_law_505
    rw [if_neg e40_11] at hf
    by_cases e40_12 : x6 = 12
    · rw [if_pos e40_12] at hf
      refine sj_tsw 506 dL_law_40 (k := 12) e40_12 (by decide) (by decide) (by decide) (by decide) ?_
      refine sj_aload_n 1 dL_law_506 rfl ?_
      obtain ⟨fs507, he507, hf⟩ := sd_isC_some hf
      refine sj_cI (rest := []) (fun _ _ _ e => sj_runV (n := 0) (As := []) (rest := []) (sX1_sureFinds l G w1 h _ _ _ e) he507 rfl rfl rfl rfl q2130 q2131 q2132 q116 q2133 (by decide +kernel) rfl rfl ⟨Nat.le_of_ble_eq_true rfl, Nat.le_of_ble_eq_true rfl⟩ rfl (Nat.le_of_ble_eq_true rfl) dL_law_507) hf (fun r61 h c hf => ?_)
      refine sj_aload_n 2 dL_law_510 rfl ?_
      obtain ⟨fs511, he511, hf⟩ := sd_isC_some hf
      refine sj_cI (rest := [.int r61]) (fun _ _ _ e => sj_runV (n := 0) (As := []) (rest := [.int r61]) (sX5_sureFinds l G w2 h _ _ _ e) he511 rfl rfl rfl rfl q3156 q3157 q3158 q127 q3159 (by decide +kernel) rfl rfl ⟨Nat.le_of_ble_eq_true rfl, Nat.le_of_ble_eq_true rfl⟩ rfl (Nat.le_of_ble_eq_true rfl) dL_law_511) hf (fun r62 h c hf => ?_)
      refine sj_iceq 1956 hf dL_law_514 (by decide) (fun g514 hf => ?_) (fun g514 hf => ?_)
      · refine sj_iincN 4 (fun x63 => [(4, .int x63), (0, .ref w0), (1, .ref w1), (2, .ref w2), (3, .ref w3)]) 6 hf dL_law_1956 rfl (by decide) (by decide) (fun _ => rfl) (fun x63 hf => ?_)
        refine sj_goto 23 dL_law_1959 (by decide) ?_
        exact sj_loc [1, 2, 3, 4, 0] rfl (Hk23 (w0, w1, w2, w3, x63) _ _ hf)
      · refine sj_iconst (v := 0) dL_law_517 (by decide) ?_
        exact sj_zretC (o := sd_oI) (ty := .boolean) rfl hf rfl rfl rfl dL_law_518
    rw [if_neg e40_12] at hf
    by_cases e40_13 : x6 = 13
    · rw [if_pos e40_13] at hf
      refine sj_tsw 519 dL_law_40 (k := 13) e40_13 (by decide) (by decide) (by decide) (by decide) ?_
      refine sj_aload_n 1 dL_law_519 rfl ?_
      obtain ⟨fs520, he520, hf⟩ := sd_isC_some hf
      refine sj_cI (rest := []) (fun _ _ _ e => sj_runV (n := 0) (As := []) (rest := []) (sX1_props l G w1 h _ _ _ e) he520 rfl rfl rfl rfl q2138 q2139 q2140 q116 q2141 (by decide +kernel) rfl rfl ⟨Nat.le_of_ble_eq_true rfl, Nat.le_of_ble_eq_true rfl⟩ rfl (Nat.le_of_ble_eq_true rfl) dL_law_520) hf (fun r64 h c hf => ?_)
      refine sj_aload_n 2 dL_law_523 rfl ?_
      obtain ⟨fs524, he524, hf⟩ := sd_isC_some hf
      refine sj_cI (rest := [.int r64]) (fun _ _ _ e => sj_runV (n := 0) (As := []) (rest := [.int r64]) (sX5_props l G w2 h _ _ _ e) he524 rfl rfl rfl rfl q3160 q3161 q3162 q127 q3163 (by decide +kernel) rfl rfl ⟨Nat.le_of_ble_eq_true rfl, Nat.le_of_ble_eq_true rfl⟩ rfl (Nat.le_of_ble_eq_true rfl) dL_law_524) hf (fun r65 h c hf => ?_)
      refine sj_iceq 1956 hf dL_law_527 (by decide) (fun g527 hf => ?_) (fun g527 hf => ?_)
      · refine sj_iincN 4 (fun x66 => [(4, .int x66), (0, .ref w0), (1, .ref w1), (2, .ref w2), (3, .ref w3)]) 6 hf dL_law_1956 rfl (by decide) (by decide) (fun _ => rfl) (fun x66 hf => ?_)
        refine sj_goto 23 dL_law_1959 (by decide) ?_
        exact sj_loc [1, 2, 3, 4, 0] rfl (Hk23 (w0, w1, w2, w3, x66) _ _ hf)
      · refine sj_iconst (v := 0) dL_law_530 (by decide) ?_
        exact sj_zretC (o := sd_oI) (ty := .boolean) rfl hf rfl rfl rfl dL_law_531
    rw [if_neg e40_13] at hf
    by_cases e40_14 : x6 = 14
    · rw [if_pos e40_14] at hf
      refine sj_tsw 532 dL_law_40 (k := 14) e40_14 (by decide) (by decide) (by decide) (by decide) ?_
      refine sj_aload_n 1 dL_law_532 rfl ?_
      refine sj_aload_n 0 dL_law_533 rfl ?_
      refine sj_iload 4 dL_law_534 rfl ?_
      refine sj_iconst (v := 1) dL_law_536 (by decide) ?_
      refine sj_iadd dL_law_537 ?_
      refine sj_iald hf dL_law_538 (fun v67 hf => ?_)
      refine sj_aload_n 3 dL_law_539 rfl ?_
      refine sj_cI (rest := []) (fun _ _ _ e => sj_runSW (n := 3) (rest := []) (sX0_heightOf l hl G w1 v67 w3 h _ _ _ e) rfl rfl q2364 q2365 q115 q2366 (by decide +kernel) rfl ⟨Nat.le_of_ble_eq_true rfl, Nat.le_of_ble_eq_true rfl⟩ rfl (Nat.le_of_ble_eq_true rfl) dL_law_540) hf (fun r68 h c hf => ?_)
      refine sj_istore [(5, .int r68), (0, .ref w0), (1, .ref w1), (2, .ref w2), (3, .ref w3), (4, .int w4)] dL_law_543 (by decide) rfl ?_
      refine sj_aload_n 3 dL_law_545 rfl ?_
      refine sj_aload_n 1 dL_law_546 rfl ?_
      refine sj_iload 5 dL_law_547 rfl ?_
      refine sj_iconst (v := 1) dL_law_549 (by decide) ?_
      refine sj_iadd dL_law_550 ?_
      refine sj_iald hf dL_law_551 (fun v69 hf => ?_)
      obtain ⟨fs552, he552, hf⟩ := sd_isC_some hf
      refine sj_cI (rest := []) (fun _ _ _ e => sj_runV (n := 1) (As := [.int v69]) (rest := []) (sX5_heightOf l G w2 v69 h _ _ _ e) he552 rfl rfl rfl rfl q3170 q3171 q3172 q127 q3173 (by decide +kernel) rfl rfl ⟨Nat.le_of_ble_eq_true rfl, Nat.le_of_ble_eq_true rfl⟩ rfl (Nat.le_of_ble_eq_true rfl) dL_law_552) hf (fun r70 h c hf => ?_)
      refine sj_istore [(6, .int r70), (5, .int r68), (0, .ref w0), (1, .ref w1), (2, .ref w2), (3, .ref w3), (4, .int w4)] dL_law_555 (by decide) rfl ?_
      refine sj_aload_n 4 dL_law_557 rfl ?_
      obtain ⟨fs558, he558, hf⟩ := sd_isC_some hf
      refine sj_cI (rest := []) (fun _ _ _ e => sj_runV (n := 0) (As := []) (rest := []) (sX5_thrown l G w2 h _ _ _ e) he558 rfl rfl rfl rfl q2905 q2906 q2907 q127 q2908 (by decide +kernel) rfl rfl ⟨Nat.le_of_ble_eq_true rfl, Nat.le_of_ble_eq_true rfl⟩ rfl (Nat.le_of_ble_eq_true rfl) dL_law_558) hf (fun r71 h c hf => ?_)
      refine sj_iload 1 dL_law_561 rfl ?_
      refine sj_iceq 568 hf dL_law_563 (by decide) (fun g563 hf => ?_) (fun g563 hf => ?_)
      · refine sj_iload 1 dL_law_568 rfl ?_
        refine sj_ifne 585 hf dL_law_570 (by decide) (fun g570 hf => ?_) (fun g570 hf => ?_)
        · refine sj_goto 1956 dL_law_585 (by decide) ?_
          refine sj_iincN 6 (fun x72 => [(4, .int x72), (6, .int r70), (5, .int r68), (0, .ref w0), (1, .ref w1), (2, .ref w2), (3, .ref w3)]) 6 hf dL_law_1956 rfl (by decide) (by decide) (fun _ => rfl) (fun x72 hf => ?_)
          refine sj_goto 23 dL_law_1959 (by decide) ?_
          exact sj_loc [3, 4, 5, 6, 0] rfl (Hk23 (w0, w1, w2, w3, x72) _ _ hf)
        · refine sj_aload_n 5 dL_law_573 rfl ?_
          refine sj_iconst (v := 0) dL_law_574 (by decide) ?_
          refine sj_lald hf dL_law_575 (fun v73 hf => ?_)
          refine sj_iload 0 dL_law_576 rfl ?_
          refine sj_i2l dL_law_578 ?_
          refine sj_lcmp dL_law_579 ?_
          refine sj_ifeq 585 hf dL_law_580 (by decide) (fun g580 hf => ?_) (fun g580 hf => ?_)
          · refine sj_goto 1956 dL_law_585 (by decide) ?_
            refine sj_iincN 6 (fun x74 => [(4, .int x74), (6, .int r70), (5, .int r68), (0, .ref w0), (1, .ref w1), (2, .ref w2), (3, .ref w3)]) 6 hf dL_law_1956 rfl (by decide) (by decide) (fun _ => rfl) (fun x74 hf => ?_)
            refine sj_goto 23 dL_law_1959 (by decide) ?_
            exact sj_loc [3, 4, 5, 6, 0] rfl (Hk23 (w0, w1, w2, w3, x74) _ _ hf)
          · refine sj_iconst (v := 0) dL_law_583 (by decide) ?_
            exact sj_zretC (o := sd_oI) (ty := .boolean) rfl hf rfl rfl rfl dL_law_584
      · refine sj_iconst (v := 0) dL_law_566 (by decide) ?_
        exact sj_zretC (o := sd_oI) (ty := .boolean) rfl hf rfl rfl rfl dL_law_567
    rw [if_neg e40_14] at hf
    by_cases e40_15 : x6 = 15
    · rw [if_pos e40_15] at hf
      refine sj_tsw 588 dL_law_40 (k := 15) e40_15 (by decide) (by decide) (by decide) (by decide) ?_
      refine sj_aload_n 1 dL_law_588 rfl ?_
      refine sj_aload_n 0 dL_law_589 rfl ?_
      refine sj_iload 4 dL_law_590 rfl ?_
      refine sj_iconst (v := 1) dL_law_592 (by decide) ?_
      refine sj_iadd dL_law_593 ?_
      refine sj_iald hf dL_law_594 (fun v75 hf => ?_)
      refine sj_aload_n 3 dL_law_595 rfl ?_
      refine sj_cI (rest := []) (fun _ _ _ e => sj_runSW (n := 3) (rest := []) (sX0_isPropped l hl G w1 v75 w3 h _ _ _ e) rfl rfl q2412 q2413 q115 q2414 (by decide +kernel) rfl ⟨Nat.le_of_ble_eq_true rfl, Nat.le_of_ble_eq_true rfl⟩ rfl (Nat.le_of_ble_eq_true rfl) dL_law_596) hf (fun r76 h c hf => ?_)
      refine sj_istore [(5, .int r76), (0, .ref w0), (1, .ref w1), (2, .ref w2), (3, .ref w3), (4, .int w4)] dL_law_599 (by decide) rfl ?_
      refine sj_aload_n 3 dL_law_601 rfl ?_
      refine sj_aload_n 1 dL_law_602 rfl ?_
      refine sj_iload 5 dL_law_603 rfl ?_
      refine sj_iconst (v := 1) dL_law_605 (by decide) ?_
      refine sj_iadd dL_law_606 ?_
      refine sj_iald hf dL_law_607 (fun v77 hf => ?_)
      obtain ⟨fs608, he608, hf⟩ := sd_isC_some hf
      refine sj_cI (rest := []) (fun _ _ _ e => sj_runV (n := 1) (As := [.int v77]) (rest := []) (sX5_isPropped l G w2 v77 h _ _ _ e) he608 rfl rfl rfl rfl q3182 q3183 q3184 q127 q3185 (by decide +kernel) rfl rfl ⟨Nat.le_of_ble_eq_true rfl, Nat.le_of_ble_eq_true rfl⟩ rfl (Nat.le_of_ble_eq_true rfl) dL_law_608) hf (fun r78 h c hf => ?_)
      refine sj_istore [(6, .int r78), (5, .int r76), (0, .ref w0), (1, .ref w1), (2, .ref w2), (3, .ref w3), (4, .int w4)] dL_law_611 (by decide) rfl ?_
      refine sj_aload_n 4 dL_law_613 rfl ?_
      obtain ⟨fs614, he614, hf⟩ := sd_isC_some hf
      refine sj_cI (rest := []) (fun _ _ _ e => sj_runV (n := 0) (As := []) (rest := []) (sX5_thrown l G w2 h _ _ _ e) he614 rfl rfl rfl rfl q2905 q2906 q2907 q127 q2908 (by decide +kernel) rfl rfl ⟨Nat.le_of_ble_eq_true rfl, Nat.le_of_ble_eq_true rfl⟩ rfl (Nat.le_of_ble_eq_true rfl) dL_law_614) hf (fun r79 h c hf => ?_)
      refine sj_iload 1 dL_law_617 rfl ?_
      refine sj_iceq 624 hf dL_law_619 (by decide) (fun g619 hf => ?_) (fun g619 hf => ?_)
      · refine sj_iload 1 dL_law_624 rfl ?_
        refine sj_ifne 648 hf dL_law_626 (by decide) (fun g626 hf => ?_) (fun g626 hf => ?_)
        · refine sj_goto 1956 dL_law_648 (by decide) ?_
          refine sj_iincN 6 (fun x80 => [(4, .int x80), (6, .int r78), (5, .int r76), (0, .ref w0), (1, .ref w1), (2, .ref w2), (3, .ref w3)]) 6 hf dL_law_1956 rfl (by decide) (by decide) (fun _ => rfl) (fun x80 hf => ?_)
          refine sj_goto 23 dL_law_1959 (by decide) ?_
          exact sj_loc [3, 4, 5, 6, 0] rfl (Hk23 (w0, w1, w2, w3, x80) _ _ hf)
        · refine sj_aload_n 5 dL_law_629 rfl ?_
          refine sj_iconst (v := 0) dL_law_630 (by decide) ?_
          refine sj_lald hf dL_law_631 (fun v81 hf => ?_)
          refine sj_iload 0 dL_law_632 rfl ?_
          refine sj_ifeq 641 hf dL_law_634 (by decide) (fun g634 hf => ?_) (fun g634 hf => ?_)
          · refine sj_lconst (v := 0) dL_law_641 (by decide) ?_
            refine sj_lcmp dL_law_642 ?_
            refine sj_ifeq 648 hf dL_law_643 (by decide) (fun g643 hf => ?_) (fun g643 hf => ?_)
            · refine sj_goto 1956 dL_law_648 (by decide) ?_
              refine sj_iincN 6 (fun x82 => [(4, .int x82), (6, .int r78), (5, .int r76), (0, .ref w0), (1, .ref w1), (2, .ref w2), (3, .ref w3)]) 6 hf dL_law_1956 rfl (by decide) (by decide) (fun _ => rfl) (fun x82 hf => ?_)
              refine sj_goto 23 dL_law_1959 (by decide) ?_
              exact sj_loc [3, 4, 5, 6, 0] rfl (Hk23 (w0, w1, w2, w3, x82) _ _ hf)
            · refine sj_iconst (v := 0) dL_law_646 (by decide) ?_
              exact sj_zretC (o := sd_oI) (ty := .boolean) rfl hf rfl rfl rfl dL_law_647
          · refine sj_lconst (v := 1) dL_law_637 (by decide) ?_
            refine sj_goto 642 dL_law_638 (by decide) ?_
            refine sj_lcmp dL_law_642 ?_
            refine sj_ifeq 648 hf dL_law_643 (by decide) (fun g643 hf => ?_) (fun g643 hf => ?_)
            · refine sj_goto 1956 dL_law_648 (by decide) ?_
              refine sj_iincN 6 (fun x83 => [(4, .int x83), (6, .int r78), (5, .int r76), (0, .ref w0), (1, .ref w1), (2, .ref w2), (3, .ref w3)]) 6 hf dL_law_1956 rfl (by decide) (by decide) (fun _ => rfl) (fun x83 hf => ?_)
              refine sj_goto 23 dL_law_1959 (by decide) ?_
              exact sj_loc [3, 4, 5, 6, 0] rfl (Hk23 (w0, w1, w2, w3, x83) _ _ hf)
            · refine sj_iconst (v := 0) dL_law_646 (by decide) ?_
              exact sj_zretC (o := sd_oI) (ty := .boolean) rfl hf rfl rfl rfl dL_law_647
      · refine sj_iconst (v := 0) dL_law_622 (by decide) ?_
        exact sj_zretC (o := sd_oI) (ty := .boolean) rfl hf rfl rfl rfl dL_law_623
    rw [if_neg e40_15] at hf
    by_cases e40_16 : x6 = 16
    · rw [if_pos e40_16] at hf
      refine sj_tsw 651 dL_law_40 (k := 16) e40_16 (by decide) (by decide) (by decide) (by decide) ?_
      refine sj_aload_n 1 dL_law_651 rfl ?_
      refine sj_aload_n 0 dL_law_652 rfl ?_
      refine sj_iload 4 dL_law_653 rfl ?_
      refine sj_iconst (v := 1) dL_law_655 (by decide) ?_
      refine sj_iadd dL_law_656 ?_
      refine sj_iald hf dL_law_657 (fun v84 hf => ?_)
      refine sj_aload_n 3 dL_law_658 rfl ?_
      refine sj_cI (rest := []) (fun _ _ _ e => sj_runSW (n := 3) (rest := []) (sX0_topStratum l hl G w1 v84 w3 h _ _ _ e) rfl rfl q2419 q2420 q115 q2421 (by decide +kernel) rfl ⟨Nat.le_of_ble_eq_true rfl, Nat.le_of_ble_eq_true rfl⟩ rfl (Nat.le_of_ble_eq_true rfl) dL_law_659) hf (fun r85 h c hf => ?_)
      refine sj_istore [(5, .int r85), (0, .ref w0), (1, .ref w1), (2, .ref w2), (3, .ref w3), (4, .int w4)] dL_law_662 (by decide) rfl ?_
      refine sj_aload_n 3 dL_law_664 rfl ?_
      refine sj_aload_n 1 dL_law_665 rfl ?_
      refine sj_iload 5 dL_law_666 rfl ?_
      refine sj_iconst (v := 1) dL_law_668 (by decide) ?_
      refine sj_iadd dL_law_669 ?_
      refine sj_iald hf dL_law_670 (fun v86 hf => ?_)
      obtain ⟨fs671, he671, hf⟩ := sd_isC_some hf
      refine sj_cI (rest := []) (fun _ _ _ e => sj_runV (n := 1) (As := [.int v86]) (rest := []) (sX5_topStratum l G w2 v86 h _ _ _ e) he671 rfl rfl rfl rfl q3194 q3195 q3196 q127 q3197 (by decide +kernel) rfl rfl ⟨Nat.le_of_ble_eq_true rfl, Nat.le_of_ble_eq_true rfl⟩ rfl (Nat.le_of_ble_eq_true rfl) dL_law_671) hf (fun r87 h c hf => ?_)
      refine sj_istore [(6, .int r87), (5, .int r85), (0, .ref w0), (1, .ref w1), (2, .ref w2), (3, .ref w3), (4, .int w4)] dL_law_674 (by decide) rfl ?_
      refine sj_aload_n 4 dL_law_676 rfl ?_
      obtain ⟨fs677, he677, hf⟩ := sd_isC_some hf
      refine sj_cI (rest := []) (fun _ _ _ e => sj_runV (n := 0) (As := []) (rest := []) (sX5_thrown l G w2 h _ _ _ e) he677 rfl rfl rfl rfl q2905 q2906 q2907 q127 q2908 (by decide +kernel) rfl rfl ⟨Nat.le_of_ble_eq_true rfl, Nat.le_of_ble_eq_true rfl⟩ rfl (Nat.le_of_ble_eq_true rfl) dL_law_677) hf (fun r88 h c hf => ?_)
      refine sj_iload 1 dL_law_680 rfl ?_
      refine sj_iceq 687 hf dL_law_682 (by decide) (fun g682 hf => ?_) (fun g682 hf => ?_)
      · refine sj_iload 1 dL_law_687 rfl ?_
        refine sj_ifne 704 hf dL_law_689 (by decide) (fun g689 hf => ?_) (fun g689 hf => ?_)
        · refine sj_goto 1956 dL_law_704 (by decide) ?_
          refine sj_iincN 6 (fun x89 => [(4, .int x89), (6, .int r87), (5, .int r85), (0, .ref w0), (1, .ref w1), (2, .ref w2), (3, .ref w3)]) 6 hf dL_law_1956 rfl (by decide) (by decide) (fun _ => rfl) (fun x89 hf => ?_)
          refine sj_goto 23 dL_law_1959 (by decide) ?_
          exact sj_loc [3, 4, 5, 6, 0] rfl (Hk23 (w0, w1, w2, w3, x89) _ _ hf)
        · refine sj_aload_n 5 dL_law_692 rfl ?_
          refine sj_iconst (v := 0) dL_law_693 (by decide) ?_
          refine sj_lald hf dL_law_694 (fun v90 hf => ?_)
          refine sj_iload 0 dL_law_695 rfl ?_
          refine sj_i2l dL_law_697 ?_
          refine sj_lcmp dL_law_698 ?_
          refine sj_ifeq 704 hf dL_law_699 (by decide) (fun g699 hf => ?_) (fun g699 hf => ?_)
          · refine sj_goto 1956 dL_law_704 (by decide) ?_
            refine sj_iincN 6 (fun x91 => [(4, .int x91), (6, .int r87), (5, .int r85), (0, .ref w0), (1, .ref w1), (2, .ref w2), (3, .ref w3)]) 6 hf dL_law_1956 rfl (by decide) (by decide) (fun _ => rfl) (fun x91 hf => ?_)
            refine sj_goto 23 dL_law_1959 (by decide) ?_
            exact sj_loc [3, 4, 5, 6, 0] rfl (Hk23 (w0, w1, w2, w3, x91) _ _ hf)
          · refine sj_iconst (v := 0) dL_law_702 (by decide) ?_
            exact sj_zretC (o := sd_oI) (ty := .boolean) rfl hf rfl rfl rfl dL_law_703
      · refine sj_iconst (v := 0) dL_law_685 (by decide) ?_
        exact sj_zretC (o := sd_oI) (ty := .boolean) rfl hf rfl rfl rfl dL_law_686
    rw [if_neg e40_16] at hf
    by_cases e40_17 : x6 = 17
    · rw [if_pos e40_17] at hf
      refine sj_tsw 707 dL_law_40 (k := 17) e40_17 (by decide) (by decide) (by decide) (by decide) ?_
      refine sj_aload_n 1 dL_law_707 rfl ?_
      refine sj_aload_n 0 dL_law_708 rfl ?_
      refine sj_iload 4 dL_law_709 rfl ?_
      refine sj_iconst (v := 1) dL_law_711 (by decide) ?_
      refine sj_iadd dL_law_712 ?_
      refine sj_iald hf dL_law_713 (fun v92 hf => ?_)
      refine sj_aload_n 3 dL_law_714 rfl ?_
      refine sj_cI (rest := []) (fun _ _ _ e => sj_runSW (n := 3) (rest := []) (sX0_isTopLoose l hl G w1 v92 w3 h _ _ _ e) rfl rfl q2430 q2431 q115 q2432 (by decide +kernel) rfl ⟨Nat.le_of_ble_eq_true rfl, Nat.le_of_ble_eq_true rfl⟩ rfl (Nat.le_of_ble_eq_true rfl) dL_law_715) hf (fun r93 h c hf => ?_)
      refine sj_istore [(5, .int r93), (0, .ref w0), (1, .ref w1), (2, .ref w2), (3, .ref w3), (4, .int w4)] dL_law_718 (by decide) rfl ?_
      refine sj_aload_n 3 dL_law_720 rfl ?_
      refine sj_aload_n 1 dL_law_721 rfl ?_
      refine sj_iload 5 dL_law_722 rfl ?_
      refine sj_iconst (v := 1) dL_law_724 (by decide) ?_
      refine sj_iadd dL_law_725 ?_
      refine sj_iald hf dL_law_726 (fun v94 hf => ?_)
      obtain ⟨fs727, he727, hf⟩ := sd_isC_some hf
      refine sj_cI (rest := []) (fun _ _ _ e => sj_runV (n := 1) (As := [.int v94]) (rest := []) (sX5_isTopLoose l G w2 v94 h _ _ _ e) he727 rfl rfl rfl rfl q3206 q3207 q3208 q127 q3209 (by decide +kernel) rfl rfl ⟨Nat.le_of_ble_eq_true rfl, Nat.le_of_ble_eq_true rfl⟩ rfl (Nat.le_of_ble_eq_true rfl) dL_law_727) hf (fun r95 h c hf => ?_)
      refine sj_istore [(6, .int r95), (5, .int r93), (0, .ref w0), (1, .ref w1), (2, .ref w2), (3, .ref w3), (4, .int w4)] dL_law_730 (by decide) rfl ?_
      refine sj_aload_n 4 dL_law_732 rfl ?_
      obtain ⟨fs733, he733, hf⟩ := sd_isC_some hf
      refine sj_cI (rest := []) (fun _ _ _ e => sj_runV (n := 0) (As := []) (rest := []) (sX5_thrown l G w2 h _ _ _ e) he733 rfl rfl rfl rfl q2905 q2906 q2907 q127 q2908 (by decide +kernel) rfl rfl ⟨Nat.le_of_ble_eq_true rfl, Nat.le_of_ble_eq_true rfl⟩ rfl (Nat.le_of_ble_eq_true rfl) dL_law_733) hf (fun r96 h c hf => ?_)
      refine sj_iload 1 dL_law_736 rfl ?_
      refine sj_iceq 743 hf dL_law_738 (by decide) (fun g738 hf => ?_) (fun g738 hf => ?_)
      · refine sj_iload 1 dL_law_743 rfl ?_
        refine sj_ifne 767 hf dL_law_745 (by decide) (fun g745 hf => ?_) (fun g745 hf => ?_)
        · refine sj_goto 1956 dL_law_767 (by decide) ?_
          refine sj_iincN 6 (fun x97 => [(4, .int x97), (6, .int r95), (5, .int r93), (0, .ref w0), (1, .ref w1), (2, .ref w2), (3, .ref w3)]) 6 hf dL_law_1956 rfl (by decide) (by decide) (fun _ => rfl) (fun x97 hf => ?_)
          refine sj_goto 23 dL_law_1959 (by decide) ?_
          exact sj_loc [3, 4, 5, 6, 0] rfl (Hk23 (w0, w1, w2, w3, x97) _ _ hf)
        · refine sj_aload_n 5 dL_law_748 rfl ?_
          refine sj_iconst (v := 0) dL_law_749 (by decide) ?_
          refine sj_lald hf dL_law_750 (fun v98 hf => ?_)
          refine sj_iload 0 dL_law_751 rfl ?_
          refine sj_ifeq 760 hf dL_law_753 (by decide) (fun g753 hf => ?_) (fun g753 hf => ?_)
          · refine sj_lconst (v := 0) dL_law_760 (by decide) ?_
            refine sj_lcmp dL_law_761 ?_
            refine sj_ifeq 767 hf dL_law_762 (by decide) (fun g762 hf => ?_) (fun g762 hf => ?_)
            · refine sj_goto 1956 dL_law_767 (by decide) ?_
              refine sj_iincN 6 (fun x99 => [(4, .int x99), (6, .int r95), (5, .int r93), (0, .ref w0), (1, .ref w1), (2, .ref w2), (3, .ref w3)]) 6 hf dL_law_1956 rfl (by decide) (by decide) (fun _ => rfl) (fun x99 hf => ?_)
              refine sj_goto 23 dL_law_1959 (by decide) ?_
              exact sj_loc [3, 4, 5, 6, 0] rfl (Hk23 (w0, w1, w2, w3, x99) _ _ hf)
            · refine sj_iconst (v := 0) dL_law_765 (by decide) ?_
              exact sj_zretC (o := sd_oI) (ty := .boolean) rfl hf rfl rfl rfl dL_law_766
          · refine sj_lconst (v := 1) dL_law_756 (by decide) ?_
            refine sj_goto 761 dL_law_757 (by decide) ?_
            refine sj_lcmp dL_law_761 ?_
            refine sj_ifeq 767 hf dL_law_762 (by decide) (fun g762 hf => ?_) (fun g762 hf => ?_)
            · refine sj_goto 1956 dL_law_767 (by decide) ?_
              refine sj_iincN 6 (fun x100 => [(4, .int x100), (6, .int r95), (5, .int r93), (0, .ref w0), (1, .ref w1), (2, .ref w2), (3, .ref w3)]) 6 hf dL_law_1956 rfl (by decide) (by decide) (fun _ => rfl) (fun x100 hf => ?_)
              refine sj_goto 23 dL_law_1959 (by decide) ?_
              exact sj_loc [3, 4, 5, 6, 0] rfl (Hk23 (w0, w1, w2, w3, x100) _ _ hf)
            · refine sj_iconst (v := 0) dL_law_765 (by decide) ?_
              exact sj_zretC (o := sd_oI) (ty := .boolean) rfl hf rfl rfl rfl dL_law_766
      · refine sj_iconst (v := 0) dL_law_741 (by decide) ?_
        exact sj_zretC (o := sd_oI) (ty := .boolean) rfl hf rfl rfl rfl dL_law_742
    rw [if_neg e40_17] at hf
    by_cases e40_18 : x6 = 18
    · rw [if_pos e40_18] at hf
      refine sj_tsw 770 dL_law_40 (k := 18) e40_18 (by decide) (by decide) (by decide) (by decide) ?_
      refine sj_aload_n 1 dL_law_770 rfl ?_
      refine sj_aload_n 0 dL_law_771 rfl ?_
      refine sj_iload 4 dL_law_772 rfl ?_
      refine sj_iconst (v := 1) dL_law_774 (by decide) ?_
      refine sj_iadd dL_law_775 ?_
      refine sj_iald hf dL_law_776 (fun v101 hf => ?_)
      refine sj_aload_n 3 dL_law_777 rfl ?_
      refine sj_cI (rest := []) (fun _ _ _ e => sj_runSW (n := 3) (rest := []) (sX0_hasTopSpring l hl G w1 v101 w3 h _ _ _ e) rfl rfl q2437 q2438 q115 q2439 (by decide +kernel) rfl ⟨Nat.le_of_ble_eq_true rfl, Nat.le_of_ble_eq_true rfl⟩ rfl (Nat.le_of_ble_eq_true rfl) dL_law_778) hf (fun r102 h c hf => ?_)
      refine sj_istore [(5, .int r102), (0, .ref w0), (1, .ref w1), (2, .ref w2), (3, .ref w3), (4, .int w4)] dL_law_781 (by decide) rfl ?_
      refine sj_aload_n 3 dL_law_783 rfl ?_
      refine sj_aload_n 1 dL_law_784 rfl ?_
      refine sj_iload 5 dL_law_785 rfl ?_
      refine sj_iconst (v := 1) dL_law_787 (by decide) ?_
      refine sj_iadd dL_law_788 ?_
      refine sj_iald hf dL_law_789 (fun v103 hf => ?_)
      obtain ⟨fs790, he790, hf⟩ := sd_isC_some hf
      refine sj_cI (rest := []) (fun _ _ _ e => sj_runV (n := 1) (As := [.int v103]) (rest := []) (sX5_hasTopSpring l G w2 v103 h _ _ _ e) he790 rfl rfl rfl rfl q3210 q3211 q3212 q127 q3213 (by decide +kernel) rfl rfl ⟨Nat.le_of_ble_eq_true rfl, Nat.le_of_ble_eq_true rfl⟩ rfl (Nat.le_of_ble_eq_true rfl) dL_law_790) hf (fun r104 h c hf => ?_)
      refine sj_istore [(6, .int r104), (5, .int r102), (0, .ref w0), (1, .ref w1), (2, .ref w2), (3, .ref w3), (4, .int w4)] dL_law_793 (by decide) rfl ?_
      refine sj_aload_n 4 dL_law_795 rfl ?_
      obtain ⟨fs796, he796, hf⟩ := sd_isC_some hf
      refine sj_cI (rest := []) (fun _ _ _ e => sj_runV (n := 0) (As := []) (rest := []) (sX5_thrown l G w2 h _ _ _ e) he796 rfl rfl rfl rfl q2905 q2906 q2907 q127 q2908 (by decide +kernel) rfl rfl ⟨Nat.le_of_ble_eq_true rfl, Nat.le_of_ble_eq_true rfl⟩ rfl (Nat.le_of_ble_eq_true rfl) dL_law_796) hf (fun r105 h c hf => ?_)
      refine sj_iload 1 dL_law_799 rfl ?_
      refine sj_iceq 806 hf dL_law_801 (by decide) (fun g801 hf => ?_) (fun g801 hf => ?_)
      · refine sj_iload 1 dL_law_806 rfl ?_
        refine sj_ifne 830 hf dL_law_808 (by decide) (fun g808 hf => ?_) (fun g808 hf => ?_)
        · refine sj_goto 1956 dL_law_830 (by decide) ?_
          refine sj_iincN 6 (fun x106 => [(4, .int x106), (6, .int r104), (5, .int r102), (0, .ref w0), (1, .ref w1), (2, .ref w2), (3, .ref w3)]) 6 hf dL_law_1956 rfl (by decide) (by decide) (fun _ => rfl) (fun x106 hf => ?_)
          refine sj_goto 23 dL_law_1959 (by decide) ?_
          exact sj_loc [3, 4, 5, 6, 0] rfl (Hk23 (w0, w1, w2, w3, x106) _ _ hf)
        · refine sj_aload_n 5 dL_law_811 rfl ?_
          refine sj_iconst (v := 0) dL_law_812 (by decide) ?_
          refine sj_lald hf dL_law_813 (fun v107 hf => ?_)
          refine sj_iload 0 dL_law_814 rfl ?_
          refine sj_ifeq 823 hf dL_law_816 (by decide) (fun g816 hf => ?_) (fun g816 hf => ?_)
          · refine sj_lconst (v := 0) dL_law_823 (by decide) ?_
            refine sj_lcmp dL_law_824 ?_
            refine sj_ifeq 830 hf dL_law_825 (by decide) (fun g825 hf => ?_) (fun g825 hf => ?_)
            · refine sj_goto 1956 dL_law_830 (by decide) ?_
              refine sj_iincN 6 (fun x108 => [(4, .int x108), (6, .int r104), (5, .int r102), (0, .ref w0), (1, .ref w1), (2, .ref w2), (3, .ref w3)]) 6 hf dL_law_1956 rfl (by decide) (by decide) (fun _ => rfl) (fun x108 hf => ?_)
              refine sj_goto 23 dL_law_1959 (by decide) ?_
              exact sj_loc [3, 4, 5, 6, 0] rfl (Hk23 (w0, w1, w2, w3, x108) _ _ hf)
            · refine sj_iconst (v := 0) dL_law_828 (by decide) ?_
              exact sj_zretC (o := sd_oI) (ty := .boolean) rfl hf rfl rfl rfl dL_law_829
          · refine sj_lconst (v := 1) dL_law_819 (by decide) ?_
            refine sj_goto 824 dL_law_820 (by decide) ?_
            refine sj_lcmp dL_law_824 ?_
            refine sj_ifeq 830 hf dL_law_825 (by decide) (fun g825 hf => ?_) (fun g825 hf => ?_)
            · refine sj_goto 1956 dL_law_830 (by decide) ?_
              refine sj_iincN 6 (fun x109 => [(4, .int x109), (6, .int r104), (5, .int r102), (0, .ref w0), (1, .ref w1), (2, .ref w2), (3, .ref w3)]) 6 hf dL_law_1956 rfl (by decide) (by decide) (fun _ => rfl) (fun x109 hf => ?_)
              refine sj_goto 23 dL_law_1959 (by decide) ?_
              exact sj_loc [3, 4, 5, 6, 0] rfl (Hk23 (w0, w1, w2, w3, x109) _ _ hf)
            · refine sj_iconst (v := 0) dL_law_828 (by decide) ?_
              exact sj_zretC (o := sd_oI) (ty := .boolean) rfl hf rfl rfl rfl dL_law_829
      · refine sj_iconst (v := 0) dL_law_804 (by decide) ?_
        exact sj_zretC (o := sd_oI) (ty := .boolean) rfl hf rfl rfl rfl dL_law_805
    rw [if_neg e40_18] at hf
    by_cases e40_19 : x6 = 19
    · rw [if_pos e40_19] at hf
      refine sj_tsw 833 dL_law_40 (k := 19) e40_19 (by decide) (by decide) (by decide) (by decide) ?_
      refine sj_aload_n 1 dL_law_833 rfl ?_
      refine sj_aload_n 0 dL_law_834 rfl ?_
      refine sj_iload 4 dL_law_835 rfl ?_
      refine sj_iconst (v := 1) dL_law_837 (by decide) ?_
      refine sj_iadd dL_law_838 ?_
      refine sj_iald hf dL_law_839 (fun v110 hf => ?_)
      refine sj_aload_n 3 dL_law_840 rfl ?_
      refine sj_cI (rest := []) (fun _ _ _ e => sj_runSW (n := 3) (rest := []) (sX0_findsLeft l hl G w1 v110 w3 h _ _ _ e) rfl rfl q2444 q2445 q115 q2446 (by decide +kernel) rfl ⟨Nat.le_of_ble_eq_true rfl, Nat.le_of_ble_eq_true rfl⟩ rfl (Nat.le_of_ble_eq_true rfl) dL_law_841) hf (fun r111 h c hf => ?_)
      refine sj_istore [(5, .int r111), (0, .ref w0), (1, .ref w1), (2, .ref w2), (3, .ref w3), (4, .int w4)] dL_law_844 (by decide) rfl ?_
      refine sj_aload_n 3 dL_law_846 rfl ?_
      refine sj_aload_n 1 dL_law_847 rfl ?_
      refine sj_iload 5 dL_law_848 rfl ?_
      refine sj_iconst (v := 1) dL_law_850 (by decide) ?_
      refine sj_iadd dL_law_851 ?_
      refine sj_iald hf dL_law_852 (fun v112 hf => ?_)
      obtain ⟨fs853, he853, hf⟩ := sd_isC_some hf
      refine sj_cI (rest := []) (fun _ _ _ e => sj_runV (n := 1) (As := [.int v112]) (rest := []) (sX5_findsLeft l G w2 v112 h _ _ _ e) he853 rfl rfl rfl rfl q3214 q3215 q3216 q127 q3217 (by decide +kernel) rfl rfl ⟨Nat.le_of_ble_eq_true rfl, Nat.le_of_ble_eq_true rfl⟩ rfl (Nat.le_of_ble_eq_true rfl) dL_law_853) hf (fun r113 h c hf => ?_)
      refine sj_istore [(6, .int r113), (5, .int r111), (0, .ref w0), (1, .ref w1), (2, .ref w2), (3, .ref w3), (4, .int w4)] dL_law_856 (by decide) rfl ?_
      refine sj_aload_n 4 dL_law_858 rfl ?_
      obtain ⟨fs859, he859, hf⟩ := sd_isC_some hf
      refine sj_cI (rest := []) (fun _ _ _ e => sj_runV (n := 0) (As := []) (rest := []) (sX5_thrown l G w2 h _ _ _ e) he859 rfl rfl rfl rfl q2905 q2906 q2907 q127 q2908 (by decide +kernel) rfl rfl ⟨Nat.le_of_ble_eq_true rfl, Nat.le_of_ble_eq_true rfl⟩ rfl (Nat.le_of_ble_eq_true rfl) dL_law_859) hf (fun r114 h c hf => ?_)
      refine sj_iload 1 dL_law_862 rfl ?_
      refine sj_iceq 869 hf dL_law_864 (by decide) (fun g864 hf => ?_) (fun g864 hf => ?_)
      · refine sj_iload 1 dL_law_869 rfl ?_
        refine sj_ifne 886 hf dL_law_871 (by decide) (fun g871 hf => ?_) (fun g871 hf => ?_)
        · refine sj_goto 1956 dL_law_886 (by decide) ?_
          refine sj_iincN 6 (fun x115 => [(4, .int x115), (6, .int r113), (5, .int r111), (0, .ref w0), (1, .ref w1), (2, .ref w2), (3, .ref w3)]) 6 hf dL_law_1956 rfl (by decide) (by decide) (fun _ => rfl) (fun x115 hf => ?_)
          refine sj_goto 23 dL_law_1959 (by decide) ?_
          exact sj_loc [3, 4, 5, 6, 0] rfl (Hk23 (w0, w1, w2, w3, x115) _ _ hf)
        · refine sj_aload_n 5 dL_law_874 rfl ?_
          refine sj_iconst (v := 0) dL_law_875 (by decide) ?_
          refine sj_lald hf dL_law_876 (fun v116 hf => ?_)
          refine sj_iload 0 dL_law_877 rfl ?_
          refine sj_i2l dL_law_879 ?_
          refine sj_lcmp dL_law_880 ?_
          refine sj_ifeq 886 hf dL_law_881 (by decide) (fun g881 hf => ?_) (fun g881 hf => ?_)
          · refine sj_goto 1956 dL_law_886 (by decide) ?_
            refine sj_iincN 6 (fun x117 => [(4, .int x117), (6, .int r113), (5, .int r111), (0, .ref w0), (1, .ref w1), (2, .ref w2), (3, .ref w3)]) 6 hf dL_law_1956 rfl (by decide) (by decide) (fun _ => rfl) (fun x117 hf => ?_)
            refine sj_goto 23 dL_law_1959 (by decide) ?_
            exact sj_loc [3, 4, 5, 6, 0] rfl (Hk23 (w0, w1, w2, w3, x117) _ _ hf)
          · refine sj_iconst (v := 0) dL_law_884 (by decide) ?_
            exact sj_zretC (o := sd_oI) (ty := .boolean) rfl hf rfl rfl rfl dL_law_885
      · refine sj_iconst (v := 0) dL_law_867 (by decide) ?_
        exact sj_zretC (o := sd_oI) (ty := .boolean) rfl hf rfl rfl rfl dL_law_868
    rw [if_neg e40_19] at hf
    by_cases e40_20 : x6 = 20
    · rw [if_pos e40_20] at hf
      refine sj_tsw 889 dL_law_40 (k := 20) e40_20 (by decide) (by decide) (by decide) (by decide) ?_
      refine sj_aload_n 1 dL_law_889 rfl ?_
      refine sj_aload_n 0 dL_law_890 rfl ?_
      refine sj_iload 4 dL_law_891 rfl ?_
      refine sj_iconst (v := 1) dL_law_893 (by decide) ?_
      refine sj_iadd dL_law_894 ?_
      refine sj_iald hf dL_law_895 (fun v118 hf => ?_)
      refine sj_aload_n 3 dL_law_896 rfl ?_
      refine sj_cI (rest := []) (fun _ _ _ e => sj_runSW (n := 3) (rest := []) (sX0_isCoin l hl G w1 v118 w3 h _ _ _ e) rfl rfl q2451 q2452 q115 q2453 (by decide +kernel) rfl ⟨Nat.le_of_ble_eq_true rfl, Nat.le_of_ble_eq_true rfl⟩ rfl (Nat.le_of_ble_eq_true rfl) dL_law_897) hf (fun r119 h c hf => ?_)
      refine sj_istore [(5, .int r119), (0, .ref w0), (1, .ref w1), (2, .ref w2), (3, .ref w3), (4, .int w4)] dL_law_900 (by decide) rfl ?_
      refine sj_aload_n 3 dL_law_902 rfl ?_
      refine sj_aload_n 1 dL_law_903 rfl ?_
      refine sj_iload 5 dL_law_904 rfl ?_
      refine sj_iconst (v := 1) dL_law_906 (by decide) ?_
      refine sj_iadd dL_law_907 ?_
      refine sj_iald hf dL_law_908 (fun v120 hf => ?_)
      obtain ⟨fs909, he909, hf⟩ := sd_isC_some hf
      refine sj_cI (rest := []) (fun _ _ _ e => sj_runV (n := 1) (As := [.int v120]) (rest := []) (sX5_isCoin l G w2 v120 h _ _ _ e) he909 rfl rfl rfl rfl q3222 q3223 q3224 q127 q3225 (by decide +kernel) rfl rfl ⟨Nat.le_of_ble_eq_true rfl, Nat.le_of_ble_eq_true rfl⟩ rfl (Nat.le_of_ble_eq_true rfl) dL_law_909) hf (fun r121 h c hf => ?_)
      refine sj_istore [(6, .int r121), (5, .int r119), (0, .ref w0), (1, .ref w1), (2, .ref w2), (3, .ref w3), (4, .int w4)] dL_law_912 (by decide) rfl ?_
      refine sj_aload_n 4 dL_law_914 rfl ?_
      obtain ⟨fs915, he915, hf⟩ := sd_isC_some hf
      refine sj_cI (rest := []) (fun _ _ _ e => sj_runV (n := 0) (As := []) (rest := []) (sX5_thrown l G w2 h _ _ _ e) he915 rfl rfl rfl rfl q2905 q2906 q2907 q127 q2908 (by decide +kernel) rfl rfl ⟨Nat.le_of_ble_eq_true rfl, Nat.le_of_ble_eq_true rfl⟩ rfl (Nat.le_of_ble_eq_true rfl) dL_law_915) hf (fun r122 h c hf => ?_)
      refine sj_iload 1 dL_law_918 rfl ?_
      refine sj_iceq 925 hf dL_law_920 (by decide) (fun g920 hf => ?_) (fun g920 hf => ?_)
      · refine sj_iload 1 dL_law_925 rfl ?_
        refine sj_ifne 949 hf dL_law_927 (by decide) (fun g927 hf => ?_) (fun g927 hf => ?_)
        · refine sj_goto 1956 dL_law_949 (by decide) ?_
          refine sj_iincN 6 (fun x123 => [(4, .int x123), (6, .int r121), (5, .int r119), (0, .ref w0), (1, .ref w1), (2, .ref w2), (3, .ref w3)]) 6 hf dL_law_1956 rfl (by decide) (by decide) (fun _ => rfl) (fun x123 hf => ?_)
          refine sj_goto 23 dL_law_1959 (by decide) ?_
          exact sj_loc [3, 4, 5, 6, 0] rfl (Hk23 (w0, w1, w2, w3, x123) _ _ hf)
        · refine sj_aload_n 5 dL_law_930 rfl ?_
          refine sj_iconst (v := 0) dL_law_931 (by decide) ?_
          refine sj_lald hf dL_law_932 (fun v124 hf => ?_)
          refine sj_iload 0 dL_law_933 rfl ?_
          refine sj_ifeq 942 hf dL_law_935 (by decide) (fun g935 hf => ?_) (fun g935 hf => ?_)
          · refine sj_lconst (v := 0) dL_law_942 (by decide) ?_
            refine sj_lcmp dL_law_943 ?_
            refine sj_ifeq 949 hf dL_law_944 (by decide) (fun g944 hf => ?_) (fun g944 hf => ?_)
            · refine sj_goto 1956 dL_law_949 (by decide) ?_
              refine sj_iincN 6 (fun x125 => [(4, .int x125), (6, .int r121), (5, .int r119), (0, .ref w0), (1, .ref w1), (2, .ref w2), (3, .ref w3)]) 6 hf dL_law_1956 rfl (by decide) (by decide) (fun _ => rfl) (fun x125 hf => ?_)
              refine sj_goto 23 dL_law_1959 (by decide) ?_
              exact sj_loc [3, 4, 5, 6, 0] rfl (Hk23 (w0, w1, w2, w3, x125) _ _ hf)
            · refine sj_iconst (v := 0) dL_law_947 (by decide) ?_
              exact sj_zretC (o := sd_oI) (ty := .boolean) rfl hf rfl rfl rfl dL_law_948
          · refine sj_lconst (v := 1) dL_law_938 (by decide) ?_
            refine sj_goto 943 dL_law_939 (by decide) ?_
            refine sj_lcmp dL_law_943 ?_
            refine sj_ifeq 949 hf dL_law_944 (by decide) (fun g944 hf => ?_) (fun g944 hf => ?_)
            · refine sj_goto 1956 dL_law_949 (by decide) ?_
              refine sj_iincN 6 (fun x126 => [(4, .int x126), (6, .int r121), (5, .int r119), (0, .ref w0), (1, .ref w1), (2, .ref w2), (3, .ref w3)]) 6 hf dL_law_1956 rfl (by decide) (by decide) (fun _ => rfl) (fun x126 hf => ?_)
              refine sj_goto 23 dL_law_1959 (by decide) ?_
              exact sj_loc [3, 4, 5, 6, 0] rfl (Hk23 (w0, w1, w2, w3, x126) _ _ hf)
            · refine sj_iconst (v := 0) dL_law_947 (by decide) ?_
              exact sj_zretC (o := sd_oI) (ty := .boolean) rfl hf rfl rfl rfl dL_law_948
      · refine sj_iconst (v := 0) dL_law_923 (by decide) ?_
        exact sj_zretC (o := sd_oI) (ty := .boolean) rfl hf rfl rfl rfl dL_law_924
    rw [if_neg e40_20] at hf
    by_cases e40_21 : x6 = 21
    · rw [if_pos e40_21] at hf
      refine sj_tsw 952 dL_law_40 (k := 21) e40_21 (by decide) (by decide) (by decide) (by decide) ?_
      refine sj_aload_n 1 dL_law_952 rfl ?_
      refine sj_aload_n 0 dL_law_953 rfl ?_
      refine sj_iload 4 dL_law_954 rfl ?_
      refine sj_iconst (v := 1) dL_law_956 (by decide) ?_
      refine sj_iadd dL_law_957 ?_
      refine sj_iald hf dL_law_958 (fun v127 hf => ?_)
      refine sj_aload_n 3 dL_law_959 rfl ?_
      refine sj_cI (rest := []) (fun _ _ _ e => sj_runSW (n := 3) (rest := []) (sX0_isFound l hl G w1 v127 w3 h _ _ _ e) rfl rfl q2475 q2476 q115 q2477 (by decide +kernel) rfl ⟨Nat.le_of_ble_eq_true rfl, Nat.le_of_ble_eq_true rfl⟩ rfl (Nat.le_of_ble_eq_true rfl) dL_law_960) hf (fun r128 h c hf => ?_)
      refine sj_istore [(5, .int r128), (0, .ref w0), (1, .ref w1), (2, .ref w2), (3, .ref w3), (4, .int w4)] dL_law_963 (by decide) rfl ?_
      refine sj_aload_n 3 dL_law_965 rfl ?_
      refine sj_aload_n 1 dL_law_966 rfl ?_
      refine sj_iload 5 dL_law_967 rfl ?_
      refine sj_iconst (v := 1) dL_law_969 (by decide) ?_
      refine sj_iadd dL_law_970 ?_
      refine sj_iald hf dL_law_971 (fun v129 hf => ?_)
      obtain ⟨fs972, he972, hf⟩ := sd_isC_some hf
      refine sj_cI (rest := []) (fun _ _ _ e => sj_runV (n := 1) (As := [.int v129]) (rest := []) (sX5_isFound l G w2 v129 h _ _ _ e) he972 rfl rfl rfl rfl q3230 q3231 q3232 q127 q3233 (by decide +kernel) rfl rfl ⟨Nat.le_of_ble_eq_true rfl, Nat.le_of_ble_eq_true rfl⟩ rfl (Nat.le_of_ble_eq_true rfl) dL_law_972) hf (fun r130 h c hf => ?_)
      refine sj_istore [(6, .int r130), (5, .int r128), (0, .ref w0), (1, .ref w1), (2, .ref w2), (3, .ref w3), (4, .int w4)] dL_law_975 (by decide) rfl ?_
      refine sj_aload_n 4 dL_law_977 rfl ?_
      obtain ⟨fs978, he978, hf⟩ := sd_isC_some hf
      refine sj_cI (rest := []) (fun _ _ _ e => sj_runV (n := 0) (As := []) (rest := []) (sX5_thrown l G w2 h _ _ _ e) he978 rfl rfl rfl rfl q2905 q2906 q2907 q127 q2908 (by decide +kernel) rfl rfl ⟨Nat.le_of_ble_eq_true rfl, Nat.le_of_ble_eq_true rfl⟩ rfl (Nat.le_of_ble_eq_true rfl) dL_law_978) hf (fun r131 h c hf => ?_)
      refine sj_iload 1 dL_law_981 rfl ?_
      refine sj_iceq 988 hf dL_law_983 (by decide) (fun g983 hf => ?_) (fun g983 hf => ?_)
      · refine sj_iload 1 dL_law_988 rfl ?_
        refine sj_ifne 1012 hf dL_law_990 (by decide) (fun g990 hf => ?_) (fun g990 hf => ?_)
        · refine sj_goto 1956 dL_law_1012 (by decide) ?_
          refine sj_iincN 6 (fun x132 => [(4, .int x132), (6, .int r130), (5, .int r128), (0, .ref w0), (1, .ref w1), (2, .ref w2), (3, .ref w3)]) 6 hf dL_law_1956 rfl (by decide) (by decide) (fun _ => rfl) (fun x132 hf => ?_)
          refine sj_goto 23 dL_law_1959 (by decide) ?_
          exact sj_loc [3, 4, 5, 6, 0] rfl (Hk23 (w0, w1, w2, w3, x132) _ _ hf)
        · refine sj_aload_n 5 dL_law_993 rfl ?_
          refine sj_iconst (v := 0) dL_law_994 (by decide) ?_
          refine sj_lald hf dL_law_995 (fun v133 hf => ?_)
          refine sj_iload 0 dL_law_996 rfl ?_
          refine sj_ifeq 1005 hf dL_law_998 (by decide) (fun g998 hf => ?_) (fun g998 hf => ?_)
          · refine sj_lconst (v := 0) dL_law_1005 (by decide) ?_
            refine sj_lcmp dL_law_1006 ?_
            refine sj_ifeq 1012 hf dL_law_1007 (by decide) (fun g1007 hf => ?_) (fun g1007 hf => ?_)
            · refine sj_goto 1956 dL_law_1012 (by decide) ?_
              refine sj_iincN 6 (fun x134 => [(4, .int x134), (6, .int r130), (5, .int r128), (0, .ref w0), (1, .ref w1), (2, .ref w2), (3, .ref w3)]) 6 hf dL_law_1956 rfl (by decide) (by decide) (fun _ => rfl) (fun x134 hf => ?_)
              refine sj_goto 23 dL_law_1959 (by decide) ?_
              exact sj_loc [3, 4, 5, 6, 0] rfl (Hk23 (w0, w1, w2, w3, x134) _ _ hf)
            · refine sj_iconst (v := 0) dL_law_1010 (by decide) ?_
              exact sj_zretC (o := sd_oI) (ty := .boolean) rfl hf rfl rfl rfl dL_law_1011
          · refine sj_lconst (v := 1) dL_law_1001 (by decide) ?_
            refine sj_goto 1006 dL_law_1002 (by decide) ?_
            refine sj_lcmp dL_law_1006 ?_
            refine sj_ifeq 1012 hf dL_law_1007 (by decide) (fun g1007 hf => ?_) (fun g1007 hf => ?_)
            · refine sj_goto 1956 dL_law_1012 (by decide) ?_
              refine sj_iincN 6 (fun x135 => [(4, .int x135), (6, .int r130), (5, .int r128), (0, .ref w0), (1, .ref w1), (2, .ref w2), (3, .ref w3)]) 6 hf dL_law_1956 rfl (by decide) (by decide) (fun _ => rfl) (fun x135 hf => ?_)
              refine sj_goto 23 dL_law_1959 (by decide) ?_
              exact sj_loc [3, 4, 5, 6, 0] rfl (Hk23 (w0, w1, w2, w3, x135) _ _ hf)
            · refine sj_iconst (v := 0) dL_law_1010 (by decide) ?_
              exact sj_zretC (o := sd_oI) (ty := .boolean) rfl hf rfl rfl rfl dL_law_1011
      · refine sj_iconst (v := 0) dL_law_986 (by decide) ?_
        exact sj_zretC (o := sd_oI) (ty := .boolean) rfl hf rfl rfl rfl dL_law_987
    rw [if_neg e40_21] at hf
    by_cases e40_22 : x6 = 22
    · rw [if_pos e40_22] at hf
      refine sj_tsw 1015 dL_law_40 (k := 22) e40_22 (by decide) (by decide) (by decide) (by decide) ?_
      refine sj_aload_n 1 dL_law_1015 rfl ?_
      refine sj_aload_n 0 dL_law_1016 rfl ?_
      refine sj_iload 4 dL_law_1017 rfl ?_
      refine sj_iconst (v := 1) dL_law_1019 (by decide) ?_
      refine sj_iadd dL_law_1020 ?_
      refine sj_iald hf dL_law_1021 (fun v136 hf => ?_)
      refine sj_aload_n 3 dL_law_1022 rfl ?_
      refine sj_cI (rest := []) (fun _ _ _ e => sj_runSW (n := 3) (rest := []) (sX0_isSure l hl G w1 v136 w3 h _ _ _ e) rfl rfl q2482 q2483 q115 q2484 (by decide +kernel) rfl ⟨Nat.le_of_ble_eq_true rfl, Nat.le_of_ble_eq_true rfl⟩ rfl (Nat.le_of_ble_eq_true rfl) dL_law_1023) hf (fun r137 h c hf => ?_)
      refine sj_istore [(5, .int r137), (0, .ref w0), (1, .ref w1), (2, .ref w2), (3, .ref w3), (4, .int w4)] dL_law_1026 (by decide) rfl ?_
      refine sj_aload_n 3 dL_law_1028 rfl ?_
      refine sj_aload_n 1 dL_law_1029 rfl ?_
      refine sj_iload 5 dL_law_1030 rfl ?_
      refine sj_iconst (v := 1) dL_law_1032 (by decide) ?_
      refine sj_iadd dL_law_1033 ?_
      refine sj_iald hf dL_law_1034 (fun v138 hf => ?_)
      obtain ⟨fs1035, he1035, hf⟩ := sd_isC_some hf
      refine sj_cI (rest := []) (fun _ _ _ e => sj_runV (n := 1) (As := [.int v138]) (rest := []) (sX5_isSure l G w2 v138 h _ _ _ e) he1035 rfl rfl rfl rfl q3234 q3235 q3236 q127 q3237 (by decide +kernel) rfl rfl ⟨Nat.le_of_ble_eq_true rfl, Nat.le_of_ble_eq_true rfl⟩ rfl (Nat.le_of_ble_eq_true rfl) dL_law_1035) hf (fun r139 h c hf => ?_)
      refine sj_istore [(6, .int r139), (5, .int r137), (0, .ref w0), (1, .ref w1), (2, .ref w2), (3, .ref w3), (4, .int w4)] dL_law_1038 (by decide) rfl ?_
      refine sj_aload_n 4 dL_law_1040 rfl ?_
      obtain ⟨fs1041, he1041, hf⟩ := sd_isC_some hf
      refine sj_cI (rest := []) (fun _ _ _ e => sj_runV (n := 0) (As := []) (rest := []) (sX5_thrown l G w2 h _ _ _ e) he1041 rfl rfl rfl rfl q2905 q2906 q2907 q127 q2908 (by decide +kernel) rfl rfl ⟨Nat.le_of_ble_eq_true rfl, Nat.le_of_ble_eq_true rfl⟩ rfl (Nat.le_of_ble_eq_true rfl) dL_law_1041) hf (fun r140 h c hf => ?_)
      refine sj_iload 1 dL_law_1044 rfl ?_
      refine sj_iceq 1051 hf dL_law_1046 (by decide) (fun g1046 hf => ?_) (fun g1046 hf => ?_)
      · refine sj_iload 1 dL_law_1051 rfl ?_
        refine sj_ifne 1075 hf dL_law_1053 (by decide) (fun g1053 hf => ?_) (fun g1053 hf => ?_)
        · refine sj_goto 1956 dL_law_1075 (by decide) ?_
          refine sj_iincN 6 (fun x141 => [(4, .int x141), (6, .int r139), (5, .int r137), (0, .ref w0), (1, .ref w1), (2, .ref w2), (3, .ref w3)]) 6 hf dL_law_1956 rfl (by decide) (by decide) (fun _ => rfl) (fun x141 hf => ?_)
          refine sj_goto 23 dL_law_1959 (by decide) ?_
          exact sj_loc [3, 4, 5, 6, 0] rfl (Hk23 (w0, w1, w2, w3, x141) _ _ hf)
        · refine sj_aload_n 5 dL_law_1056 rfl ?_
          refine sj_iconst (v := 0) dL_law_1057 (by decide) ?_
          refine sj_lald hf dL_law_1058 (fun v142 hf => ?_)
          refine sj_iload 0 dL_law_1059 rfl ?_
          refine sj_ifeq 1068 hf dL_law_1061 (by decide) (fun g1061 hf => ?_) (fun g1061 hf => ?_)
          · refine sj_lconst (v := 0) dL_law_1068 (by decide) ?_
            refine sj_lcmp dL_law_1069 ?_
            refine sj_ifeq 1075 hf dL_law_1070 (by decide) (fun g1070 hf => ?_) (fun g1070 hf => ?_)
            · refine sj_goto 1956 dL_law_1075 (by decide) ?_
              refine sj_iincN 6 (fun x143 => [(4, .int x143), (6, .int r139), (5, .int r137), (0, .ref w0), (1, .ref w1), (2, .ref w2), (3, .ref w3)]) 6 hf dL_law_1956 rfl (by decide) (by decide) (fun _ => rfl) (fun x143 hf => ?_)
              refine sj_goto 23 dL_law_1959 (by decide) ?_
              exact sj_loc [3, 4, 5, 6, 0] rfl (Hk23 (w0, w1, w2, w3, x143) _ _ hf)
            · refine sj_iconst (v := 0) dL_law_1073 (by decide) ?_
              exact sj_zretC (o := sd_oI) (ty := .boolean) rfl hf rfl rfl rfl dL_law_1074
          · refine sj_lconst (v := 1) dL_law_1064 (by decide) ?_
            refine sj_goto 1069 dL_law_1065 (by decide) ?_
            refine sj_lcmp dL_law_1069 ?_
            refine sj_ifeq 1075 hf dL_law_1070 (by decide) (fun g1070 hf => ?_) (fun g1070 hf => ?_)
            · refine sj_goto 1956 dL_law_1075 (by decide) ?_
              refine sj_iincN 6 (fun x144 => [(4, .int x144), (6, .int r139), (5, .int r137), (0, .ref w0), (1, .ref w1), (2, .ref w2), (3, .ref w3)]) 6 hf dL_law_1956 rfl (by decide) (by decide) (fun _ => rfl) (fun x144 hf => ?_)
              refine sj_goto 23 dL_law_1959 (by decide) ?_
              exact sj_loc [3, 4, 5, 6, 0] rfl (Hk23 (w0, w1, w2, w3, x144) _ _ hf)
            · refine sj_iconst (v := 0) dL_law_1073 (by decide) ?_
              exact sj_zretC (o := sd_oI) (ty := .boolean) rfl hf rfl rfl rfl dL_law_1074
      · refine sj_iconst (v := 0) dL_law_1049 (by decide) ?_
        exact sj_zretC (o := sd_oI) (ty := .boolean) rfl hf rfl rfl rfl dL_law_1050
    rw [if_neg e40_22] at hf
    by_cases e40_23 : x6 = 23
    · rw [if_pos e40_23] at hf
      refine sj_tsw 1078 dL_law_40 (k := 23) e40_23 (by decide) (by decide) (by decide) (by decide) ?_
      refine sj_aload_n 1 dL_law_1078 rfl ?_
      refine sj_aload_n 0 dL_law_1079 rfl ?_
      refine sj_iload 4 dL_law_1080 rfl ?_
      refine sj_iconst (v := 1) dL_law_1082 (by decide) ?_
      refine sj_iadd dL_law_1083 ?_
      refine sj_iald hf dL_law_1084 (fun v145 hf => ?_)
      refine sj_aload_n 3 dL_law_1085 rfl ?_
      refine sj_cI (rest := []) (fun _ _ _ e => sj_runSW (n := 3) (rest := []) (sX0_stratumOf l hl G w1 v145 w3 h _ _ _ e) rfl rfl q2490 q2491 q115 q2492 (by decide +kernel) rfl ⟨Nat.le_of_ble_eq_true rfl, Nat.le_of_ble_eq_true rfl⟩ rfl (Nat.le_of_ble_eq_true rfl) dL_law_1086) hf (fun r146 h c hf => ?_)
      refine sj_istore [(5, .int r146), (0, .ref w0), (1, .ref w1), (2, .ref w2), (3, .ref w3), (4, .int w4)] dL_law_1089 (by decide) rfl ?_
      refine sj_aload_n 3 dL_law_1091 rfl ?_
      refine sj_aload_n 1 dL_law_1092 rfl ?_
      refine sj_iload 5 dL_law_1093 rfl ?_
      refine sj_iconst (v := 1) dL_law_1095 (by decide) ?_
      refine sj_iadd dL_law_1096 ?_
      refine sj_iald hf dL_law_1097 (fun v147 hf => ?_)
      obtain ⟨fs1098, he1098, hf⟩ := sd_isC_some hf
      refine sj_cI (rest := []) (fun _ _ _ e => sj_runV (n := 1) (As := [.int v147]) (rest := []) (sX5_stratumOf l G w2 v147 h _ _ _ e) he1098 rfl rfl rfl rfl q3242 q3243 q3244 q127 q3245 (by decide +kernel) rfl rfl ⟨Nat.le_of_ble_eq_true rfl, Nat.le_of_ble_eq_true rfl⟩ rfl (Nat.le_of_ble_eq_true rfl) dL_law_1098) hf (fun r148 h c hf => ?_)
      refine sj_istore [(6, .int r148), (5, .int r146), (0, .ref w0), (1, .ref w1), (2, .ref w2), (3, .ref w3), (4, .int w4)] dL_law_1101 (by decide) rfl ?_
      refine sj_aload_n 4 dL_law_1103 rfl ?_
      obtain ⟨fs1104, he1104, hf⟩ := sd_isC_some hf
      refine sj_cI (rest := []) (fun _ _ _ e => sj_runV (n := 0) (As := []) (rest := []) (sX5_thrown l G w2 h _ _ _ e) he1104 rfl rfl rfl rfl q2905 q2906 q2907 q127 q2908 (by decide +kernel) rfl rfl ⟨Nat.le_of_ble_eq_true rfl, Nat.le_of_ble_eq_true rfl⟩ rfl (Nat.le_of_ble_eq_true rfl) dL_law_1104) hf (fun r149 h c hf => ?_)
      refine sj_iload 1 dL_law_1107 rfl ?_
      refine sj_iceq 1114 hf dL_law_1109 (by decide) (fun g1109 hf => ?_) (fun g1109 hf => ?_)
      · refine sj_iload 1 dL_law_1114 rfl ?_
        refine sj_ifne 1131 hf dL_law_1116 (by decide) (fun g1116 hf => ?_) (fun g1116 hf => ?_)
        · refine sj_goto 1956 dL_law_1131 (by decide) ?_
          refine sj_iincN 6 (fun x150 => [(4, .int x150), (6, .int r148), (5, .int r146), (0, .ref w0), (1, .ref w1), (2, .ref w2), (3, .ref w3)]) 6 hf dL_law_1956 rfl (by decide) (by decide) (fun _ => rfl) (fun x150 hf => ?_)
          refine sj_goto 23 dL_law_1959 (by decide) ?_
          exact sj_loc [3, 4, 5, 6, 0] rfl (Hk23 (w0, w1, w2, w3, x150) _ _ hf)
        · refine sj_aload_n 5 dL_law_1119 rfl ?_
          refine sj_iconst (v := 0) dL_law_1120 (by decide) ?_
          refine sj_lald hf dL_law_1121 (fun v151 hf => ?_)
          refine sj_iload 0 dL_law_1122 rfl ?_
          refine sj_i2l dL_law_1124 ?_
          refine sj_lcmp dL_law_1125 ?_
          refine sj_ifeq 1131 hf dL_law_1126 (by decide) (fun g1126 hf => ?_) (fun g1126 hf => ?_)
          · refine sj_goto 1956 dL_law_1131 (by decide) ?_
            refine sj_iincN 6 (fun x152 => [(4, .int x152), (6, .int r148), (5, .int r146), (0, .ref w0), (1, .ref w1), (2, .ref w2), (3, .ref w3)]) 6 hf dL_law_1956 rfl (by decide) (by decide) (fun _ => rfl) (fun x152 hf => ?_)
            refine sj_goto 23 dL_law_1959 (by decide) ?_
            exact sj_loc [3, 4, 5, 6, 0] rfl (Hk23 (w0, w1, w2, w3, x152) _ _ hf)
          · refine sj_iconst (v := 0) dL_law_1129 (by decide) ?_
            exact sj_zretC (o := sd_oI) (ty := .boolean) rfl hf rfl rfl rfl dL_law_1130
      · refine sj_iconst (v := 0) dL_law_1112 (by decide) ?_
        exact sj_zretC (o := sd_oI) (ty := .boolean) rfl hf rfl rfl rfl dL_law_1113
    rw [if_neg e40_23] at hf
    by_cases e40_24 : x6 = 24
    · rw [if_pos e40_24] at hf
      refine sj_tsw 1134 dL_law_40 (k := 24) e40_24 (by decide) (by decide) (by decide) (by decide) ?_
      refine sj_aload_n 1 dL_law_1134 rfl ?_
      refine sj_aload_n 0 dL_law_1135 rfl ?_
      refine sj_iload 4 dL_law_1136 rfl ?_
      refine sj_iconst (v := 1) dL_law_1138 (by decide) ?_
      refine sj_iadd dL_law_1139 ?_
      refine sj_iald hf dL_law_1140 (fun v153 hf => ?_)
      refine sj_aload_n 3 dL_law_1141 rfl ?_
      refine sj_cI (rest := []) (fun _ _ _ e => sj_runSW (n := 3) (rest := []) (sX0_yearOf l hl G w1 v153 w3 h _ _ _ e) rfl rfl q2497 q2498 q115 q2499 (by decide +kernel) rfl ⟨Nat.le_of_ble_eq_true rfl, Nat.le_of_ble_eq_true rfl⟩ rfl (Nat.le_of_ble_eq_true rfl) dL_law_1142) hf (fun r154 h c hf => ?_)
      refine sj_istore [(5, .int r154), (0, .ref w0), (1, .ref w1), (2, .ref w2), (3, .ref w3), (4, .int w4)] dL_law_1145 (by decide) rfl ?_
      refine sj_aload_n 3 dL_law_1147 rfl ?_
      refine sj_aload_n 1 dL_law_1148 rfl ?_
      refine sj_iload 5 dL_law_1149 rfl ?_
      refine sj_iconst (v := 1) dL_law_1151 (by decide) ?_
      refine sj_iadd dL_law_1152 ?_
      refine sj_iald hf dL_law_1153 (fun v155 hf => ?_)
      obtain ⟨fs1154, he1154, hf⟩ := sd_isC_some hf
      refine sj_cI (rest := []) (fun _ _ _ e => sj_runV (n := 1) (As := [.int v155]) (rest := []) (sX5_yearOf l G w2 v155 h _ _ _ e) he1154 rfl rfl rfl rfl q3250 q3251 q3252 q127 q3253 (by decide +kernel) rfl rfl ⟨Nat.le_of_ble_eq_true rfl, Nat.le_of_ble_eq_true rfl⟩ rfl (Nat.le_of_ble_eq_true rfl) dL_law_1154) hf (fun r156 h c hf => ?_)
      refine sj_istore [(6, .int r156), (5, .int r154), (0, .ref w0), (1, .ref w1), (2, .ref w2), (3, .ref w3), (4, .int w4)] dL_law_1157 (by decide) rfl ?_
      refine sj_aload_n 4 dL_law_1159 rfl ?_
      obtain ⟨fs1160, he1160, hf⟩ := sd_isC_some hf
      refine sj_cI (rest := []) (fun _ _ _ e => sj_runV (n := 0) (As := []) (rest := []) (sX5_thrown l G w2 h _ _ _ e) he1160 rfl rfl rfl rfl q2905 q2906 q2907 q127 q2908 (by decide +kernel) rfl rfl ⟨Nat.le_of_ble_eq_true rfl, Nat.le_of_ble_eq_true rfl⟩ rfl (Nat.le_of_ble_eq_true rfl) dL_law_1160) hf (fun r157 h c hf => ?_)
      refine sj_iload 1 dL_law_1163 rfl ?_
      refine sj_iceq 1170 hf dL_law_1165 (by decide) (fun g1165 hf => ?_) (fun g1165 hf => ?_)
      · refine sj_iload 1 dL_law_1170 rfl ?_
        refine sj_ifne 1187 hf dL_law_1172 (by decide) (fun g1172 hf => ?_) (fun g1172 hf => ?_)
        · refine sj_goto 1956 dL_law_1187 (by decide) ?_
          refine sj_iincN 6 (fun x158 => [(4, .int x158), (6, .int r156), (5, .int r154), (0, .ref w0), (1, .ref w1), (2, .ref w2), (3, .ref w3)]) 6 hf dL_law_1956 rfl (by decide) (by decide) (fun _ => rfl) (fun x158 hf => ?_)
          refine sj_goto 23 dL_law_1959 (by decide) ?_
          exact sj_loc [3, 4, 5, 6, 0] rfl (Hk23 (w0, w1, w2, w3, x158) _ _ hf)
        · refine sj_aload_n 5 dL_law_1175 rfl ?_
          refine sj_iconst (v := 0) dL_law_1176 (by decide) ?_
          refine sj_lald hf dL_law_1177 (fun v159 hf => ?_)
          refine sj_iload 0 dL_law_1178 rfl ?_
          refine sj_i2l dL_law_1180 ?_
          refine sj_lcmp dL_law_1181 ?_
          refine sj_ifeq 1187 hf dL_law_1182 (by decide) (fun g1182 hf => ?_) (fun g1182 hf => ?_)
          · refine sj_goto 1956 dL_law_1187 (by decide) ?_
            refine sj_iincN 6 (fun x160 => [(4, .int x160), (6, .int r156), (5, .int r154), (0, .ref w0), (1, .ref w1), (2, .ref w2), (3, .ref w3)]) 6 hf dL_law_1956 rfl (by decide) (by decide) (fun _ => rfl) (fun x160 hf => ?_)
            refine sj_goto 23 dL_law_1959 (by decide) ?_
            exact sj_loc [3, 4, 5, 6, 0] rfl (Hk23 (w0, w1, w2, w3, x160) _ _ hf)
          · refine sj_iconst (v := 0) dL_law_1185 (by decide) ?_
            exact sj_zretC (o := sd_oI) (ty := .boolean) rfl hf rfl rfl rfl dL_law_1186
      · refine sj_iconst (v := 0) dL_law_1168 (by decide) ?_
        exact sj_zretC (o := sd_oI) (ty := .boolean) rfl hf rfl rfl rfl dL_law_1169
    rw [if_neg e40_24] at hf
    by_cases e40_25 : x6 = 25
    · rw [if_pos e40_25] at hf
      refine sj_tsw 1190 dL_law_40 (k := 25) e40_25 (by decide) (by decide) (by decide) (by decide) ?_
      refine sj_aload_n 1 dL_law_1190 rfl ?_
      refine sj_aload_n 0 dL_law_1191 rfl ?_
      refine sj_iload 4 dL_law_1192 rfl ?_
      refine sj_iconst (v := 1) dL_law_1194 (by decide) ?_
      refine sj_iadd dL_law_1195 ?_
      refine sj_iald hf dL_law_1196 (fun v161 hf => ?_)
      refine sj_aload_n 3 dL_law_1197 rfl ?_
      refine sj_cI (rest := []) (fun _ _ _ e => sj_runSW (n := 3) (rest := []) (sX0_empireOf l hl G w1 v161 w3 h _ _ _ e) rfl rfl q2504 q2505 q115 q2506 (by decide +kernel) rfl ⟨Nat.le_of_ble_eq_true rfl, Nat.le_of_ble_eq_true rfl⟩ rfl (Nat.le_of_ble_eq_true rfl) dL_law_1198) hf (fun r162 h c hf => ?_)
      refine sj_istore [(5, .int r162), (0, .ref w0), (1, .ref w1), (2, .ref w2), (3, .ref w3), (4, .int w4)] dL_law_1201 (by decide) rfl ?_
      refine sj_aload_n 3 dL_law_1203 rfl ?_
      refine sj_aload_n 1 dL_law_1204 rfl ?_
      refine sj_iload 5 dL_law_1205 rfl ?_
      refine sj_iconst (v := 1) dL_law_1207 (by decide) ?_
      refine sj_iadd dL_law_1208 ?_
      refine sj_iald hf dL_law_1209 (fun v163 hf => ?_)
      obtain ⟨fs1210, he1210, hf⟩ := sd_isC_some hf
      refine sj_cI (rest := []) (fun _ _ _ e => sj_runV (n := 1) (As := [.int v163]) (rest := []) (sX5_empireOf l G w2 v163 h _ _ _ e) he1210 rfl rfl rfl rfl q3258 q3259 q3260 q127 q3261 (by decide +kernel) rfl rfl ⟨Nat.le_of_ble_eq_true rfl, Nat.le_of_ble_eq_true rfl⟩ rfl (Nat.le_of_ble_eq_true rfl) dL_law_1210) hf (fun r164 h c hf => ?_)
      refine sj_istore [(6, .int r164), (5, .int r162), (0, .ref w0), (1, .ref w1), (2, .ref w2), (3, .ref w3), (4, .int w4)] dL_law_1213 (by decide) rfl ?_
      refine sj_aload_n 4 dL_law_1215 rfl ?_
      obtain ⟨fs1216, he1216, hf⟩ := sd_isC_some hf
      refine sj_cI (rest := []) (fun _ _ _ e => sj_runV (n := 0) (As := []) (rest := []) (sX5_thrown l G w2 h _ _ _ e) he1216 rfl rfl rfl rfl q2905 q2906 q2907 q127 q2908 (by decide +kernel) rfl rfl ⟨Nat.le_of_ble_eq_true rfl, Nat.le_of_ble_eq_true rfl⟩ rfl (Nat.le_of_ble_eq_true rfl) dL_law_1216) hf (fun r165 h c hf => ?_)
      refine sj_iload 1 dL_law_1219 rfl ?_
      refine sj_iceq 1226 hf dL_law_1221 (by decide) (fun g1221 hf => ?_) (fun g1221 hf => ?_)
      · refine sj_iload 1 dL_law_1226 rfl ?_
        refine sj_ifne 1243 hf dL_law_1228 (by decide) (fun g1228 hf => ?_) (fun g1228 hf => ?_)
        · refine sj_goto 1956 dL_law_1243 (by decide) ?_
          refine sj_iincN 6 (fun x166 => [(4, .int x166), (6, .int r164), (5, .int r162), (0, .ref w0), (1, .ref w1), (2, .ref w2), (3, .ref w3)]) 6 hf dL_law_1956 rfl (by decide) (by decide) (fun _ => rfl) (fun x166 hf => ?_)
          refine sj_goto 23 dL_law_1959 (by decide) ?_
          exact sj_loc [3, 4, 5, 6, 0] rfl (Hk23 (w0, w1, w2, w3, x166) _ _ hf)
        · refine sj_aload_n 5 dL_law_1231 rfl ?_
          refine sj_iconst (v := 0) dL_law_1232 (by decide) ?_
          refine sj_lald hf dL_law_1233 (fun v167 hf => ?_)
          refine sj_iload 0 dL_law_1234 rfl ?_
          refine sj_i2l dL_law_1236 ?_
          refine sj_lcmp dL_law_1237 ?_
          refine sj_ifeq 1243 hf dL_law_1238 (by decide) (fun g1238 hf => ?_) (fun g1238 hf => ?_)
          · refine sj_goto 1956 dL_law_1243 (by decide) ?_
            refine sj_iincN 6 (fun x168 => [(4, .int x168), (6, .int r164), (5, .int r162), (0, .ref w0), (1, .ref w1), (2, .ref w2), (3, .ref w3)]) 6 hf dL_law_1956 rfl (by decide) (by decide) (fun _ => rfl) (fun x168 hf => ?_)
            refine sj_goto 23 dL_law_1959 (by decide) ?_
            exact sj_loc [3, 4, 5, 6, 0] rfl (Hk23 (w0, w1, w2, w3, x168) _ _ hf)
          · refine sj_iconst (v := 0) dL_law_1241 (by decide) ?_
            exact sj_zretC (o := sd_oI) (ty := .boolean) rfl hf rfl rfl rfl dL_law_1242
      · refine sj_iconst (v := 0) dL_law_1224 (by decide) ?_
        exact sj_zretC (o := sd_oI) (ty := .boolean) rfl hf rfl rfl rfl dL_law_1225
    rw [if_neg e40_25] at hf
    by_cases e40_26 : x6 = 26
    · rw [if_pos e40_26] at hf
      refine sj_tsw 1246 dL_law_40 (k := 26) e40_26 (by decide) (by decide) (by decide) (by decide) ?_
      refine sj_aload_n 1 dL_law_1246 rfl ?_
      refine sj_aload_n 0 dL_law_1247 rfl ?_
      refine sj_iload 4 dL_law_1248 rfl ?_
      refine sj_iconst (v := 1) dL_law_1250 (by decide) ?_
      refine sj_iadd dL_law_1251 ?_
      refine sj_iald hf dL_law_1252 (fun v169 hf => ?_)
      refine sj_aload_n 3 dL_law_1253 rfl ?_
      refine sj_cI (rest := []) (fun _ _ _ e => sj_runSW (n := 3) (rest := []) (sX0_buriedUnder l hl G w1 v169 w3 h _ _ _ e) rfl rfl q2511 q2512 q115 q2513 (by decide +kernel) rfl ⟨Nat.le_of_ble_eq_true rfl, Nat.le_of_ble_eq_true rfl⟩ rfl (Nat.le_of_ble_eq_true rfl) dL_law_1254) hf (fun r170 h c hf => ?_)
      refine sj_istore [(5, .int r170), (0, .ref w0), (1, .ref w1), (2, .ref w2), (3, .ref w3), (4, .int w4)] dL_law_1257 (by decide) rfl ?_
      refine sj_aload_n 3 dL_law_1259 rfl ?_
      refine sj_aload_n 1 dL_law_1260 rfl ?_
      refine sj_iload 5 dL_law_1261 rfl ?_
      refine sj_iconst (v := 1) dL_law_1263 (by decide) ?_
      refine sj_iadd dL_law_1264 ?_
      refine sj_iald hf dL_law_1265 (fun v171 hf => ?_)
      obtain ⟨fs1266, he1266, hf⟩ := sd_isC_some hf
      refine sj_cI (rest := []) (fun _ _ _ e => sj_runV (n := 1) (As := [.int v171]) (rest := []) (sX5_buriedUnder l G w2 v171 h _ _ _ e) he1266 rfl rfl rfl rfl q3262 q3263 q3264 q127 q3265 (by decide +kernel) rfl rfl ⟨Nat.le_of_ble_eq_true rfl, Nat.le_of_ble_eq_true rfl⟩ rfl (Nat.le_of_ble_eq_true rfl) dL_law_1266) hf (fun r172 h c hf => ?_)
      refine sj_istore [(6, .int r172), (5, .int r170), (0, .ref w0), (1, .ref w1), (2, .ref w2), (3, .ref w3), (4, .int w4)] dL_law_1269 (by decide) rfl ?_
      refine sj_aload_n 4 dL_law_1271 rfl ?_
      obtain ⟨fs1272, he1272, hf⟩ := sd_isC_some hf
      refine sj_cI (rest := []) (fun _ _ _ e => sj_runV (n := 0) (As := []) (rest := []) (sX5_thrown l G w2 h _ _ _ e) he1272 rfl rfl rfl rfl q2905 q2906 q2907 q127 q2908 (by decide +kernel) rfl rfl ⟨Nat.le_of_ble_eq_true rfl, Nat.le_of_ble_eq_true rfl⟩ rfl (Nat.le_of_ble_eq_true rfl) dL_law_1272) hf (fun r173 h c hf => ?_)
      refine sj_iload 1 dL_law_1275 rfl ?_
      refine sj_iceq 1282 hf dL_law_1277 (by decide) (fun g1277 hf => ?_) (fun g1277 hf => ?_)
      · refine sj_iload 1 dL_law_1282 rfl ?_
        refine sj_ifne 1299 hf dL_law_1284 (by decide) (fun g1284 hf => ?_) (fun g1284 hf => ?_)
        · refine sj_goto 1956 dL_law_1299 (by decide) ?_
          refine sj_iincN 6 (fun x174 => [(4, .int x174), (6, .int r172), (5, .int r170), (0, .ref w0), (1, .ref w1), (2, .ref w2), (3, .ref w3)]) 6 hf dL_law_1956 rfl (by decide) (by decide) (fun _ => rfl) (fun x174 hf => ?_)
          refine sj_goto 23 dL_law_1959 (by decide) ?_
          exact sj_loc [3, 4, 5, 6, 0] rfl (Hk23 (w0, w1, w2, w3, x174) _ _ hf)
        · refine sj_aload_n 5 dL_law_1287 rfl ?_
          refine sj_iconst (v := 0) dL_law_1288 (by decide) ?_
          refine sj_lald hf dL_law_1289 (fun v175 hf => ?_)
          refine sj_iload 0 dL_law_1290 rfl ?_
          refine sj_i2l dL_law_1292 ?_
          refine sj_lcmp dL_law_1293 ?_
          refine sj_ifeq 1299 hf dL_law_1294 (by decide) (fun g1294 hf => ?_) (fun g1294 hf => ?_)
          · refine sj_goto 1956 dL_law_1299 (by decide) ?_
            refine sj_iincN 6 (fun x176 => [(4, .int x176), (6, .int r172), (5, .int r170), (0, .ref w0), (1, .ref w1), (2, .ref w2), (3, .ref w3)]) 6 hf dL_law_1956 rfl (by decide) (by decide) (fun _ => rfl) (fun x176 hf => ?_)
            refine sj_goto 23 dL_law_1959 (by decide) ?_
            exact sj_loc [3, 4, 5, 6, 0] rfl (Hk23 (w0, w1, w2, w3, x176) _ _ hf)
          · refine sj_iconst (v := 0) dL_law_1297 (by decide) ?_
            exact sj_zretC (o := sd_oI) (ty := .boolean) rfl hf rfl rfl rfl dL_law_1298
      · refine sj_iconst (v := 0) dL_law_1280 (by decide) ?_
        exact sj_zretC (o := sd_oI) (ty := .boolean) rfl hf rfl rfl rfl dL_law_1281
    rw [if_neg e40_26] at hf
    by_cases e40_27 : x6 = 27
    · rw [if_pos e40_27] at hf
      refine sj_tsw 1302 dL_law_40 (k := 27) e40_27 (by decide) (by decide) (by decide) (by decide) ?_
      refine sj_aload_n 1 dL_law_1302 rfl ?_
      refine sj_aload_n 0 dL_law_1303 rfl ?_
      refine sj_iload 4 dL_law_1304 rfl ?_
      refine sj_iconst (v := 1) dL_law_1306 (by decide) ?_
      refine sj_iadd dL_law_1307 ?_
      refine sj_iald hf dL_law_1308 (fun v177 hf => ?_)
      refine sj_aload_n 3 dL_law_1309 rfl ?_
      refine sj_cI (rest := []) (fun _ _ _ e => sj_runSW (n := 3) (rest := []) (sX0_notBefore l hl G w1 v177 w3 h _ _ _ e) rfl rfl q2522 q2523 q115 q2524 (by decide +kernel) rfl ⟨Nat.le_of_ble_eq_true rfl, Nat.le_of_ble_eq_true rfl⟩ rfl (Nat.le_of_ble_eq_true rfl) dL_law_1310) hf (fun r178 h c hf => ?_)
      refine sj_istore [(5, .int r178), (0, .ref w0), (1, .ref w1), (2, .ref w2), (3, .ref w3), (4, .int w4)] dL_law_1313 (by decide) rfl ?_
      refine sj_aload_n 3 dL_law_1315 rfl ?_
      refine sj_aload_n 1 dL_law_1316 rfl ?_
      refine sj_iload 5 dL_law_1317 rfl ?_
      refine sj_iconst (v := 1) dL_law_1319 (by decide) ?_
      refine sj_iadd dL_law_1320 ?_
      refine sj_iald hf dL_law_1321 (fun v179 hf => ?_)
      obtain ⟨fs1322, he1322, hf⟩ := sd_isC_some hf
      refine sj_cI (rest := []) (fun _ _ _ e => sj_runV (n := 1) (As := [.int v179]) (rest := []) (sX5_notBefore l G w2 v179 h _ _ _ e) he1322 rfl rfl rfl rfl q3270 q3271 q3272 q127 q3273 (by decide +kernel) rfl rfl ⟨Nat.le_of_ble_eq_true rfl, Nat.le_of_ble_eq_true rfl⟩ rfl (Nat.le_of_ble_eq_true rfl) dL_law_1322) hf (fun r180 h c hf => ?_)
      refine sj_istore [(6, .int r180), (5, .int r178), (0, .ref w0), (1, .ref w1), (2, .ref w2), (3, .ref w3), (4, .int w4)] dL_law_1325 (by decide) rfl ?_
      refine sj_aload_n 4 dL_law_1327 rfl ?_
      obtain ⟨fs1328, he1328, hf⟩ := sd_isC_some hf
      refine sj_cI (rest := []) (fun _ _ _ e => sj_runV (n := 0) (As := []) (rest := []) (sX5_thrown l G w2 h _ _ _ e) he1328 rfl rfl rfl rfl q2905 q2906 q2907 q127 q2908 (by decide +kernel) rfl rfl ⟨Nat.le_of_ble_eq_true rfl, Nat.le_of_ble_eq_true rfl⟩ rfl (Nat.le_of_ble_eq_true rfl) dL_law_1328) hf (fun r181 h c hf => ?_)
      refine sj_iload 1 dL_law_1331 rfl ?_
      refine sj_iceq 1338 hf dL_law_1333 (by decide) (fun g1333 hf => ?_) (fun g1333 hf => ?_)
      · refine sj_iload 1 dL_law_1338 rfl ?_
        refine sj_ifne 1355 hf dL_law_1340 (by decide) (fun g1340 hf => ?_) (fun g1340 hf => ?_)
        · refine sj_goto 1956 dL_law_1355 (by decide) ?_
          refine sj_iincN 6 (fun x182 => [(4, .int x182), (6, .int r180), (5, .int r178), (0, .ref w0), (1, .ref w1), (2, .ref w2), (3, .ref w3)]) 6 hf dL_law_1956 rfl (by decide) (by decide) (fun _ => rfl) (fun x182 hf => ?_)
          refine sj_goto 23 dL_law_1959 (by decide) ?_
          exact sj_loc [3, 4, 5, 6, 0] rfl (Hk23 (w0, w1, w2, w3, x182) _ _ hf)
        · refine sj_aload_n 5 dL_law_1343 rfl ?_
          refine sj_iconst (v := 0) dL_law_1344 (by decide) ?_
          refine sj_lald hf dL_law_1345 (fun v183 hf => ?_)
          refine sj_iload 0 dL_law_1346 rfl ?_
          refine sj_i2l dL_law_1348 ?_
          refine sj_lcmp dL_law_1349 ?_
          refine sj_ifeq 1355 hf dL_law_1350 (by decide) (fun g1350 hf => ?_) (fun g1350 hf => ?_)
          · refine sj_goto 1956 dL_law_1355 (by decide) ?_
            refine sj_iincN 6 (fun x184 => [(4, .int x184), (6, .int r180), (5, .int r178), (0, .ref w0), (1, .ref w1), (2, .ref w2), (3, .ref w3)]) 6 hf dL_law_1956 rfl (by decide) (by decide) (fun _ => rfl) (fun x184 hf => ?_)
            refine sj_goto 23 dL_law_1959 (by decide) ?_
            exact sj_loc [3, 4, 5, 6, 0] rfl (Hk23 (w0, w1, w2, w3, x184) _ _ hf)
          · refine sj_iconst (v := 0) dL_law_1353 (by decide) ?_
            exact sj_zretC (o := sd_oI) (ty := .boolean) rfl hf rfl rfl rfl dL_law_1354
      · refine sj_iconst (v := 0) dL_law_1336 (by decide) ?_
        exact sj_zretC (o := sd_oI) (ty := .boolean) rfl hf rfl rfl rfl dL_law_1337
    rw [if_neg e40_27] at hf
    by_cases e40_28 : x6 = 28
    · rw [if_pos e40_28] at hf
      refine sj_tsw 1358 dL_law_40 (k := 28) e40_28 (by decide) (by decide) (by decide) (by decide) ?_
      refine sj_aload_n 1 dL_law_1358 rfl ?_
      refine sj_aload_n 0 dL_law_1359 rfl ?_
      refine sj_iload 4 dL_law_1360 rfl ?_
      refine sj_iconst (v := 1) dL_law_1362 (by decide) ?_
      refine sj_iadd dL_law_1363 ?_
      refine sj_iald hf dL_law_1364 (fun v185 hf => ?_)
      refine sj_aload_n 0 dL_law_1365 rfl ?_
      refine sj_iload 4 dL_law_1366 rfl ?_
      refine sj_iconst (v := 2) dL_law_1368 (by decide) ?_
      refine sj_iadd dL_law_1369 ?_
      refine sj_iald hf dL_law_1370 (fun v186 hf => ?_)
      refine sj_aload_n 3 dL_law_1371 rfl ?_
      refine sj_cI (rest := []) (fun _ _ _ e => sj_runSW (n := 4) (rest := []) (sX0_isSeenIn l hl G w1 v185 v186 w3 h _ _ _ e) rfl rfl q2533 q2534 q115 q2535 (by decide +kernel) rfl ⟨Nat.le_of_ble_eq_true rfl, Nat.le_of_ble_eq_true rfl⟩ rfl (Nat.le_of_ble_eq_true rfl) dL_law_1372) hf (fun r187 h c hf => ?_)
      refine sj_istore [(5, .int r187), (0, .ref w0), (1, .ref w1), (2, .ref w2), (3, .ref w3), (4, .int w4)] dL_law_1375 (by decide) rfl ?_
      refine sj_aload_n 3 dL_law_1377 rfl ?_
      refine sj_aload_n 1 dL_law_1378 rfl ?_
      refine sj_iload 5 dL_law_1379 rfl ?_
      refine sj_iconst (v := 1) dL_law_1381 (by decide) ?_
      refine sj_iadd dL_law_1382 ?_
      refine sj_iald hf dL_law_1383 (fun v188 hf => ?_)
      refine sj_aload_n 1 dL_law_1384 rfl ?_
      refine sj_iload 5 dL_law_1385 rfl ?_
      refine sj_iconst (v := 2) dL_law_1387 (by decide) ?_
      refine sj_iadd dL_law_1388 ?_
      refine sj_iald hf dL_law_1389 (fun v189 hf => ?_)
      obtain ⟨fs1390, he1390, hf⟩ := sd_isC_some hf
      refine sj_cI (rest := []) (fun _ _ _ e => sj_runV (n := 2) (As := [.int v188, .int v189]) (rest := []) (sX5_isSeenIn l G w2 v188 v189 h _ _ _ e) he1390 rfl rfl rfl rfl q3283 q3284 q3285 q127 q3286 (by decide +kernel) rfl rfl ⟨Nat.le_of_ble_eq_true rfl, Nat.le_of_ble_eq_true rfl⟩ rfl (Nat.le_of_ble_eq_true rfl) dL_law_1390) hf (fun r190 h c hf => ?_)
      refine sj_istore [(6, .int r190), (5, .int r187), (0, .ref w0), (1, .ref w1), (2, .ref w2), (3, .ref w3), (4, .int w4)] dL_law_1393 (by decide) rfl ?_
      refine sj_aload_n 4 dL_law_1395 rfl ?_
      obtain ⟨fs1396, he1396, hf⟩ := sd_isC_some hf
      refine sj_cI (rest := []) (fun _ _ _ e => sj_runV (n := 0) (As := []) (rest := []) (sX5_thrown l G w2 h _ _ _ e) he1396 rfl rfl rfl rfl q2905 q2906 q2907 q127 q2908 (by decide +kernel) rfl rfl ⟨Nat.le_of_ble_eq_true rfl, Nat.le_of_ble_eq_true rfl⟩ rfl (Nat.le_of_ble_eq_true rfl) dL_law_1396) hf (fun r191 h c hf => ?_)
      refine sj_iload 1 dL_law_1399 rfl ?_
      refine sj_iceq 1406 hf dL_law_1401 (by decide) (fun g1401 hf => ?_) (fun g1401 hf => ?_)
      · refine sj_iload 1 dL_law_1406 rfl ?_
        refine sj_ifne 1430 hf dL_law_1408 (by decide) (fun g1408 hf => ?_) (fun g1408 hf => ?_)
        · refine sj_goto 1956 dL_law_1430 (by decide) ?_
          refine sj_iincN 6 (fun x192 => [(4, .int x192), (6, .int r190), (5, .int r187), (0, .ref w0), (1, .ref w1), (2, .ref w2), (3, .ref w3)]) 6 hf dL_law_1956 rfl (by decide) (by decide) (fun _ => rfl) (fun x192 hf => ?_)
          refine sj_goto 23 dL_law_1959 (by decide) ?_
          exact sj_loc [3, 4, 5, 6, 0] rfl (Hk23 (w0, w1, w2, w3, x192) _ _ hf)
        · refine sj_aload_n 5 dL_law_1411 rfl ?_
          refine sj_iconst (v := 0) dL_law_1412 (by decide) ?_
          refine sj_lald hf dL_law_1413 (fun v193 hf => ?_)
          refine sj_iload 0 dL_law_1414 rfl ?_
          refine sj_ifeq 1423 hf dL_law_1416 (by decide) (fun g1416 hf => ?_) (fun g1416 hf => ?_)
          · refine sj_lconst (v := 0) dL_law_1423 (by decide) ?_
            refine sj_lcmp dL_law_1424 ?_
            refine sj_ifeq 1430 hf dL_law_1425 (by decide) (fun g1425 hf => ?_) (fun g1425 hf => ?_)
            · refine sj_goto 1956 dL_law_1430 (by decide) ?_
              refine sj_iincN 6 (fun x194 => [(4, .int x194), (6, .int r190), (5, .int r187), (0, .ref w0), (1, .ref w1), (2, .ref w2), (3, .ref w3)]) 6 hf dL_law_1956 rfl (by decide) (by decide) (fun _ => rfl) (fun x194 hf => ?_)
              refine sj_goto 23 dL_law_1959 (by decide) ?_
              exact sj_loc [3, 4, 5, 6, 0] rfl (Hk23 (w0, w1, w2, w3, x194) _ _ hf)
            · refine sj_iconst (v := 0) dL_law_1428 (by decide) ?_
              exact sj_zretC (o := sd_oI) (ty := .boolean) rfl hf rfl rfl rfl dL_law_1429
          · refine sj_lconst (v := 1) dL_law_1419 (by decide) ?_
            refine sj_goto 1424 dL_law_1420 (by decide) ?_
            refine sj_lcmp dL_law_1424 ?_
            refine sj_ifeq 1430 hf dL_law_1425 (by decide) (fun g1425 hf => ?_) (fun g1425 hf => ?_)
            · refine sj_goto 1956 dL_law_1430 (by decide) ?_
              refine sj_iincN 6 (fun x195 => [(4, .int x195), (6, .int r190), (5, .int r187), (0, .ref w0), (1, .ref w1), (2, .ref w2), (3, .ref w3)]) 6 hf dL_law_1956 rfl (by decide) (by decide) (fun _ => rfl) (fun x195 hf => ?_)
              refine sj_goto 23 dL_law_1959 (by decide) ?_
              exact sj_loc [3, 4, 5, 6, 0] rfl (Hk23 (w0, w1, w2, w3, x195) _ _ hf)
            · refine sj_iconst (v := 0) dL_law_1428 (by decide) ?_
              exact sj_zretC (o := sd_oI) (ty := .boolean) rfl hf rfl rfl rfl dL_law_1429
      · refine sj_iconst (v := 0) dL_law_1404 (by decide) ?_
        exact sj_zretC (o := sd_oI) (ty := .boolean) rfl hf rfl rfl rfl dL_law_1405
    rw [if_neg e40_28] at hf
    by_cases e40_29 : x6 = 29
    · rw [if_pos e40_29] at hf
      refine sj_tsw 1433 dL_law_40 (k := 29) e40_29 (by decide) (by decide) (by decide) (by decide) ?_
      refine sj_aload_n 1 dL_law_1433 rfl ?_
      refine sj_aload_n 0 dL_law_1434 rfl ?_
      refine sj_iload 4 dL_law_1435 rfl ?_
      refine sj_iconst (v := 1) dL_law_1437 (by decide) ?_
      refine sj_iadd dL_law_1438 ?_
      refine sj_iald hf dL_law_1439 (fun v196 hf => ?_)
      refine sj_aload_n 3 dL_law_1440 rfl ?_
      refine sj_cI (rest := []) (fun _ _ _ e => sj_runSW (n := 3) (rest := []) (sX0_isMixed l hl G w1 v196 w3 h _ _ _ e) rfl rfl q2541 q2542 q115 q2543 (by decide +kernel) rfl ⟨Nat.le_of_ble_eq_true rfl, Nat.le_of_ble_eq_true rfl⟩ rfl (Nat.le_of_ble_eq_true rfl) dL_law_1441) hf (fun r197 h c hf => ?_)
      refine sj_istore [(5, .int r197), (0, .ref w0), (1, .ref w1), (2, .ref w2), (3, .ref w3), (4, .int w4)] dL_law_1444 (by decide) rfl ?_
      refine sj_aload_n 3 dL_law_1446 rfl ?_
      refine sj_aload_n 1 dL_law_1447 rfl ?_
      refine sj_iload 5 dL_law_1448 rfl ?_
      refine sj_iconst (v := 1) dL_law_1450 (by decide) ?_
      refine sj_iadd dL_law_1451 ?_
      refine sj_iald hf dL_law_1452 (fun v198 hf => ?_)
      obtain ⟨fs1453, he1453, hf⟩ := sd_isC_some hf
      refine sj_cI (rest := []) (fun _ _ _ e => sj_runV (n := 1) (As := [.int v198]) (rest := []) (sX5_isMixed l G w2 v198 h _ _ _ e) he1453 rfl rfl rfl rfl q3291 q3292 q3293 q127 q3294 (by decide +kernel) rfl rfl ⟨Nat.le_of_ble_eq_true rfl, Nat.le_of_ble_eq_true rfl⟩ rfl (Nat.le_of_ble_eq_true rfl) dL_law_1453) hf (fun r199 h c hf => ?_)
      refine sj_istore [(6, .int r199), (5, .int r197), (0, .ref w0), (1, .ref w1), (2, .ref w2), (3, .ref w3), (4, .int w4)] dL_law_1456 (by decide) rfl ?_
      refine sj_aload_n 4 dL_law_1458 rfl ?_
      obtain ⟨fs1459, he1459, hf⟩ := sd_isC_some hf
      refine sj_cI (rest := []) (fun _ _ _ e => sj_runV (n := 0) (As := []) (rest := []) (sX5_thrown l G w2 h _ _ _ e) he1459 rfl rfl rfl rfl q2905 q2906 q2907 q127 q2908 (by decide +kernel) rfl rfl ⟨Nat.le_of_ble_eq_true rfl, Nat.le_of_ble_eq_true rfl⟩ rfl (Nat.le_of_ble_eq_true rfl) dL_law_1459) hf (fun r200 h c hf => ?_)
      refine sj_iload 1 dL_law_1462 rfl ?_
      refine sj_iceq 1469 hf dL_law_1464 (by decide) (fun g1464 hf => ?_) (fun g1464 hf => ?_)
      · refine sj_iload 1 dL_law_1469 rfl ?_
        refine sj_ifne 1493 hf dL_law_1471 (by decide) (fun g1471 hf => ?_) (fun g1471 hf => ?_)
        · refine sj_goto 1956 dL_law_1493 (by decide) ?_
          refine sj_iincN 6 (fun x201 => [(4, .int x201), (6, .int r199), (5, .int r197), (0, .ref w0), (1, .ref w1), (2, .ref w2), (3, .ref w3)]) 6 hf dL_law_1956 rfl (by decide) (by decide) (fun _ => rfl) (fun x201 hf => ?_)
          refine sj_goto 23 dL_law_1959 (by decide) ?_
          exact sj_loc [3, 4, 5, 6, 0] rfl (Hk23 (w0, w1, w2, w3, x201) _ _ hf)
        · refine sj_aload_n 5 dL_law_1474 rfl ?_
          refine sj_iconst (v := 0) dL_law_1475 (by decide) ?_
          refine sj_lald hf dL_law_1476 (fun v202 hf => ?_)
          refine sj_iload 0 dL_law_1477 rfl ?_
          refine sj_ifeq 1486 hf dL_law_1479 (by decide) (fun g1479 hf => ?_) (fun g1479 hf => ?_)
          · refine sj_lconst (v := 0) dL_law_1486 (by decide) ?_
            refine sj_lcmp dL_law_1487 ?_
            refine sj_ifeq 1493 hf dL_law_1488 (by decide) (fun g1488 hf => ?_) (fun g1488 hf => ?_)
            · refine sj_goto 1956 dL_law_1493 (by decide) ?_
              refine sj_iincN 6 (fun x203 => [(4, .int x203), (6, .int r199), (5, .int r197), (0, .ref w0), (1, .ref w1), (2, .ref w2), (3, .ref w3)]) 6 hf dL_law_1956 rfl (by decide) (by decide) (fun _ => rfl) (fun x203 hf => ?_)
              refine sj_goto 23 dL_law_1959 (by decide) ?_
              exact sj_loc [3, 4, 5, 6, 0] rfl (Hk23 (w0, w1, w2, w3, x203) _ _ hf)
            · refine sj_iconst (v := 0) dL_law_1491 (by decide) ?_
              exact sj_zretC (o := sd_oI) (ty := .boolean) rfl hf rfl rfl rfl dL_law_1492
          · refine sj_lconst (v := 1) dL_law_1482 (by decide) ?_
            refine sj_goto 1487 dL_law_1483 (by decide) ?_
            refine sj_lcmp dL_law_1487 ?_
            refine sj_ifeq 1493 hf dL_law_1488 (by decide) (fun g1488 hf => ?_) (fun g1488 hf => ?_)
            · refine sj_goto 1956 dL_law_1493 (by decide) ?_
              refine sj_iincN 6 (fun x204 => [(4, .int x204), (6, .int r199), (5, .int r197), (0, .ref w0), (1, .ref w1), (2, .ref w2), (3, .ref w3)]) 6 hf dL_law_1956 rfl (by decide) (by decide) (fun _ => rfl) (fun x204 hf => ?_)
              refine sj_goto 23 dL_law_1959 (by decide) ?_
              exact sj_loc [3, 4, 5, 6, 0] rfl (Hk23 (w0, w1, w2, w3, x204) _ _ hf)
            · refine sj_iconst (v := 0) dL_law_1491 (by decide) ?_
              exact sj_zretC (o := sd_oI) (ty := .boolean) rfl hf rfl rfl rfl dL_law_1492
      · refine sj_iconst (v := 0) dL_law_1467 (by decide) ?_
        exact sj_zretC (o := sd_oI) (ty := .boolean) rfl hf rfl rfl rfl dL_law_1468
    rw [if_neg e40_29] at hf
    by_cases e40_30 : x6 = 30
    · rw [if_pos e40_30] at hf
      refine sj_tsw 1496 dL_law_40 (k := 30) e40_30 (by decide) (by decide) (by decide) (by decide) ?_
      refine sj_aload_n 1 dL_law_1496 rfl ?_
      refine sj_aload_n 0 dL_law_1497 rfl ?_
      refine sj_iload 4 dL_law_1498 rfl ?_
      refine sj_iconst (v := 1) dL_law_1500 (by decide) ?_
      refine sj_iadd dL_law_1501 ?_
      refine sj_iald hf dL_law_1502 (fun v205 hf => ?_)
      refine sj_aload_n 3 dL_law_1503 rfl ?_
      refine sj_cI (rest := []) (fun _ _ _ e => sj_runSW (n := 3) (rest := []) (sX0_dig l hl G w1 v205 w3 h _ _ _ e) rfl rfl q2548 q2549 q115 q2550 (by decide +kernel) rfl ⟨Nat.le_of_ble_eq_true rfl, Nat.le_of_ble_eq_true rfl⟩ rfl (Nat.le_of_ble_eq_true rfl) dL_law_1504) hf (fun r206 h c hf => ?_)
      refine sj_istore [(5, .int r206), (0, .ref w0), (1, .ref w1), (2, .ref w2), (3, .ref w3), (4, .int w4)] dL_law_1507 (by decide) rfl ?_
      refine sj_aload_n 3 dL_law_1509 rfl ?_
      refine sj_aload_n 1 dL_law_1510 rfl ?_
      refine sj_iload 5 dL_law_1511 rfl ?_
      refine sj_iconst (v := 1) dL_law_1513 (by decide) ?_
      refine sj_iadd dL_law_1514 ?_
      refine sj_iald hf dL_law_1515 (fun v207 hf => ?_)
      obtain ⟨fs1516, he1516, hf⟩ := sd_isC_some hf
      refine sj_cI (rest := []) (fun _ _ _ e => sj_runV (n := 1) (As := [.int v207]) (rest := []) (sX5_dig l G w2 v207 h _ _ _ e) he1516 rfl rfl rfl rfl q3299 q3300 q3301 q127 q3302 (by decide +kernel) rfl rfl ⟨Nat.le_of_ble_eq_true rfl, Nat.le_of_ble_eq_true rfl⟩ rfl (Nat.le_of_ble_eq_true rfl) dL_law_1516) hf (fun r208 h c hf => ?_)
      refine sj_istore [(6, .int r208), (5, .int r206), (0, .ref w0), (1, .ref w1), (2, .ref w2), (3, .ref w3), (4, .int w4)] dL_law_1519 (by decide) rfl ?_
      refine sj_aload_n 4 dL_law_1521 rfl ?_
      obtain ⟨fs1522, he1522, hf⟩ := sd_isC_some hf
      refine sj_cI (rest := []) (fun _ _ _ e => sj_runV (n := 0) (As := []) (rest := []) (sX5_thrown l G w2 h _ _ _ e) he1522 rfl rfl rfl rfl q2905 q2906 q2907 q127 q2908 (by decide +kernel) rfl rfl ⟨Nat.le_of_ble_eq_true rfl, Nat.le_of_ble_eq_true rfl⟩ rfl (Nat.le_of_ble_eq_true rfl) dL_law_1522) hf (fun r209 h c hf => ?_)
      refine sj_iload 1 dL_law_1525 rfl ?_
      refine sj_iceq 1532 hf dL_law_1527 (by decide) (fun g1527 hf => ?_) (fun g1527 hf => ?_)
      · refine sj_iload 1 dL_law_1532 rfl ?_
        refine sj_ifne 1549 hf dL_law_1534 (by decide) (fun g1534 hf => ?_) (fun g1534 hf => ?_)
        · refine sj_goto 1956 dL_law_1549 (by decide) ?_
          refine sj_iincN 6 (fun x210 => [(4, .int x210), (6, .int r208), (5, .int r206), (0, .ref w0), (1, .ref w1), (2, .ref w2), (3, .ref w3)]) 6 hf dL_law_1956 rfl (by decide) (by decide) (fun _ => rfl) (fun x210 hf => ?_)
          refine sj_goto 23 dL_law_1959 (by decide) ?_
          exact sj_loc [3, 4, 5, 6, 0] rfl (Hk23 (w0, w1, w2, w3, x210) _ _ hf)
        · refine sj_aload_n 5 dL_law_1537 rfl ?_
          refine sj_iconst (v := 0) dL_law_1538 (by decide) ?_
          refine sj_lald hf dL_law_1539 (fun v211 hf => ?_)
          refine sj_iload 0 dL_law_1540 rfl ?_
          refine sj_i2l dL_law_1542 ?_
          refine sj_lcmp dL_law_1543 ?_
          refine sj_ifeq 1549 hf dL_law_1544 (by decide) (fun g1544 hf => ?_) (fun g1544 hf => ?_)
          · refine sj_goto 1956 dL_law_1549 (by decide) ?_
            refine sj_iincN 6 (fun x212 => [(4, .int x212), (6, .int r208), (5, .int r206), (0, .ref w0), (1, .ref w1), (2, .ref w2), (3, .ref w3)]) 6 hf dL_law_1956 rfl (by decide) (by decide) (fun _ => rfl) (fun x212 hf => ?_)
            refine sj_goto 23 dL_law_1959 (by decide) ?_
            exact sj_loc [3, 4, 5, 6, 0] rfl (Hk23 (w0, w1, w2, w3, x212) _ _ hf)
          · refine sj_iconst (v := 0) dL_law_1547 (by decide) ?_
            exact sj_zretC (o := sd_oI) (ty := .boolean) rfl hf rfl rfl rfl dL_law_1548
      · refine sj_iconst (v := 0) dL_law_1530 (by decide) ?_
        exact sj_zretC (o := sd_oI) (ty := .boolean) rfl hf rfl rfl rfl dL_law_1531
    rw [if_neg e40_30] at hf
    by_cases e40_31 : x6 = 31
    · rw [if_pos e40_31] at hf
      refine sj_tsw 1552 dL_law_40 (k := 31) e40_31 (by decide) (by decide) (by decide) (by decide) ?_
      refine sj_aload_n 1 dL_law_1552 rfl ?_
      refine sj_aload_n 0 dL_law_1553 rfl ?_
      refine sj_iload 4 dL_law_1554 rfl ?_
      refine sj_iconst (v := 1) dL_law_1556 (by decide) ?_
      refine sj_iadd dL_law_1557 ?_
      refine sj_iald hf dL_law_1558 (fun v213 hf => ?_)
      refine sj_aload_n 3 dL_law_1559 rfl ?_
      refine sj_cI (rest := []) (fun _ _ _ e => sj_runSW (n := 3) (rest := []) (sX0_prop l hl G w1 v213 w3 h _ _ _ e) rfl rfl q2555 q2556 q115 q2557 (by decide +kernel) rfl ⟨Nat.le_of_ble_eq_true rfl, Nat.le_of_ble_eq_true rfl⟩ rfl (Nat.le_of_ble_eq_true rfl) dL_law_1560) hf (fun r214 h c hf => ?_)
      refine sj_istore [(5, .int r214), (0, .ref w0), (1, .ref w1), (2, .ref w2), (3, .ref w3), (4, .int w4)] dL_law_1563 (by decide) rfl ?_
      refine sj_aload_n 3 dL_law_1565 rfl ?_
      refine sj_aload_n 1 dL_law_1566 rfl ?_
      refine sj_iload 5 dL_law_1567 rfl ?_
      refine sj_iconst (v := 1) dL_law_1569 (by decide) ?_
      refine sj_iadd dL_law_1570 ?_
      refine sj_iald hf dL_law_1571 (fun v215 hf => ?_)
      obtain ⟨fs1572, he1572, hf⟩ := sd_isC_some hf
      refine sj_cI (rest := []) (fun _ _ _ e => sj_runV (n := 1) (As := [.int v215]) (rest := []) (sX5_prop l G w2 v215 h _ _ _ e) he1572 rfl rfl rfl rfl q3319 q3320 q3321 q127 q3322 (by decide +kernel) rfl rfl ⟨Nat.le_of_ble_eq_true rfl, Nat.le_of_ble_eq_true rfl⟩ rfl (Nat.le_of_ble_eq_true rfl) dL_law_1572) hf (fun r216 h c hf => ?_)
      refine sj_istore [(6, .int r216), (5, .int r214), (0, .ref w0), (1, .ref w1), (2, .ref w2), (3, .ref w3), (4, .int w4)] dL_law_1575 (by decide) rfl ?_
      refine sj_aload_n 4 dL_law_1577 rfl ?_
      obtain ⟨fs1578, he1578, hf⟩ := sd_isC_some hf
      refine sj_cI (rest := []) (fun _ _ _ e => sj_runV (n := 0) (As := []) (rest := []) (sX5_thrown l G w2 h _ _ _ e) he1578 rfl rfl rfl rfl q2905 q2906 q2907 q127 q2908 (by decide +kernel) rfl rfl ⟨Nat.le_of_ble_eq_true rfl, Nat.le_of_ble_eq_true rfl⟩ rfl (Nat.le_of_ble_eq_true rfl) dL_law_1578) hf (fun r217 h c hf => ?_)
      refine sj_iload 1 dL_law_1581 rfl ?_
      refine sj_iceq 1588 hf dL_law_1583 (by decide) (fun g1583 hf => ?_) (fun g1583 hf => ?_)
      · refine sj_iload 1 dL_law_1588 rfl ?_
        refine sj_ifne 1605 hf dL_law_1590 (by decide) (fun g1590 hf => ?_) (fun g1590 hf => ?_)
        · refine sj_goto 1956 dL_law_1605 (by decide) ?_
          refine sj_iincN 6 (fun x218 => [(4, .int x218), (6, .int r216), (5, .int r214), (0, .ref w0), (1, .ref w1), (2, .ref w2), (3, .ref w3)]) 6 hf dL_law_1956 rfl (by decide) (by decide) (fun _ => rfl) (fun x218 hf => ?_)
          refine sj_goto 23 dL_law_1959 (by decide) ?_
          exact sj_loc [3, 4, 5, 6, 0] rfl (Hk23 (w0, w1, w2, w3, x218) _ _ hf)
        · refine sj_aload_n 5 dL_law_1593 rfl ?_
          refine sj_iconst (v := 0) dL_law_1594 (by decide) ?_
          refine sj_lald hf dL_law_1595 (fun v219 hf => ?_)
          refine sj_iload 0 dL_law_1596 rfl ?_
          refine sj_i2l dL_law_1598 ?_
          refine sj_lcmp dL_law_1599 ?_
          refine sj_ifeq 1605 hf dL_law_1600 (by decide) (fun g1600 hf => ?_) (fun g1600 hf => ?_)
          · refine sj_goto 1956 dL_law_1605 (by decide) ?_
            refine sj_iincN 6 (fun x220 => [(4, .int x220), (6, .int r216), (5, .int r214), (0, .ref w0), (1, .ref w1), (2, .ref w2), (3, .ref w3)]) 6 hf dL_law_1956 rfl (by decide) (by decide) (fun _ => rfl) (fun x220 hf => ?_)
            refine sj_goto 23 dL_law_1959 (by decide) ?_
            exact sj_loc [3, 4, 5, 6, 0] rfl (Hk23 (w0, w1, w2, w3, x220) _ _ hf)
          · refine sj_iconst (v := 0) dL_law_1603 (by decide) ?_
            exact sj_zretC (o := sd_oI) (ty := .boolean) rfl hf rfl rfl rfl dL_law_1604
      · refine sj_iconst (v := 0) dL_law_1586 (by decide) ?_
        exact sj_zretC (o := sd_oI) (ty := .boolean) rfl hf rfl rfl rfl dL_law_1587
    rw [if_neg e40_31] at hf
    by_cases e40_32 : x6 = 32
    · rw [if_pos e40_32] at hf
      refine sj_tsw 1608 dL_law_40 (k := 32) e40_32 (by decide) (by decide) (by decide) (by decide) ?_
      refine sj_aload_n 1 dL_law_1608 rfl ?_
      refine sj_aload_n 0 dL_law_1609 rfl ?_
      refine sj_iload 4 dL_law_1610 rfl ?_
      refine sj_iconst (v := 1) dL_law_1612 (by decide) ?_
      refine sj_iadd dL_law_1613 ?_
      refine sj_iald hf dL_law_1614 (fun v221 hf => ?_)
      refine sj_aload_n 3 dL_law_1615 rfl ?_
      refine sj_cI (rest := []) (fun _ _ _ e => sj_runSW (n := 3) (rest := []) (sX0_takeProp l hl G w1 v221 w3 h _ _ _ e) rfl rfl q2567 q2568 q115 q2569 (by decide +kernel) rfl ⟨Nat.le_of_ble_eq_true rfl, Nat.le_of_ble_eq_true rfl⟩ rfl (Nat.le_of_ble_eq_true rfl) dL_law_1616) hf (fun r222 h c hf => ?_)
      refine sj_istore [(5, .int r222), (0, .ref w0), (1, .ref w1), (2, .ref w2), (3, .ref w3), (4, .int w4)] dL_law_1619 (by decide) rfl ?_
      refine sj_aload_n 3 dL_law_1621 rfl ?_
      refine sj_aload_n 1 dL_law_1622 rfl ?_
      refine sj_iload 5 dL_law_1623 rfl ?_
      refine sj_iconst (v := 1) dL_law_1625 (by decide) ?_
      refine sj_iadd dL_law_1626 ?_
      refine sj_iald hf dL_law_1627 (fun v223 hf => ?_)
      obtain ⟨fs1628, he1628, hf⟩ := sd_isC_some hf
      refine sj_cI (rest := []) (fun _ _ _ e => sj_runV (n := 1) (As := [.int v223]) (rest := []) (sX5_takeProp l G w2 v223 h _ _ _ e) he1628 rfl rfl rfl rfl q3327 q3328 q3329 q127 q3330 (by decide +kernel) rfl rfl ⟨Nat.le_of_ble_eq_true rfl, Nat.le_of_ble_eq_true rfl⟩ rfl (Nat.le_of_ble_eq_true rfl) dL_law_1628) hf (fun r224 h c hf => ?_)
      refine sj_istore [(6, .int r224), (5, .int r222), (0, .ref w0), (1, .ref w1), (2, .ref w2), (3, .ref w3), (4, .int w4)] dL_law_1631 (by decide) rfl ?_
      refine sj_aload_n 4 dL_law_1633 rfl ?_
      obtain ⟨fs1634, he1634, hf⟩ := sd_isC_some hf
      refine sj_cI (rest := []) (fun _ _ _ e => sj_runV (n := 0) (As := []) (rest := []) (sX5_thrown l G w2 h _ _ _ e) he1634 rfl rfl rfl rfl q2905 q2906 q2907 q127 q2908 (by decide +kernel) rfl rfl ⟨Nat.le_of_ble_eq_true rfl, Nat.le_of_ble_eq_true rfl⟩ rfl (Nat.le_of_ble_eq_true rfl) dL_law_1634) hf (fun r225 h c hf => ?_)
      refine sj_iload 1 dL_law_1637 rfl ?_
      refine sj_iceq 1644 hf dL_law_1639 (by decide) (fun g1639 hf => ?_) (fun g1639 hf => ?_)
      · refine sj_iload 1 dL_law_1644 rfl ?_
        refine sj_ifne 1661 hf dL_law_1646 (by decide) (fun g1646 hf => ?_) (fun g1646 hf => ?_)
        · refine sj_goto 1956 dL_law_1661 (by decide) ?_
          refine sj_iincN 6 (fun x226 => [(4, .int x226), (6, .int r224), (5, .int r222), (0, .ref w0), (1, .ref w1), (2, .ref w2), (3, .ref w3)]) 6 hf dL_law_1956 rfl (by decide) (by decide) (fun _ => rfl) (fun x226 hf => ?_)
          refine sj_goto 23 dL_law_1959 (by decide) ?_
          exact sj_loc [3, 4, 5, 6, 0] rfl (Hk23 (w0, w1, w2, w3, x226) _ _ hf)
        · refine sj_aload_n 5 dL_law_1649 rfl ?_
          refine sj_iconst (v := 0) dL_law_1650 (by decide) ?_
          refine sj_lald hf dL_law_1651 (fun v227 hf => ?_)
          refine sj_iload 0 dL_law_1652 rfl ?_
          refine sj_i2l dL_law_1654 ?_
          refine sj_lcmp dL_law_1655 ?_
          refine sj_ifeq 1661 hf dL_law_1656 (by decide) (fun g1656 hf => ?_) (fun g1656 hf => ?_)
          · refine sj_goto 1956 dL_law_1661 (by decide) ?_
            refine sj_iincN 6 (fun x228 => [(4, .int x228), (6, .int r224), (5, .int r222), (0, .ref w0), (1, .ref w1), (2, .ref w2), (3, .ref w3)]) 6 hf dL_law_1956 rfl (by decide) (by decide) (fun _ => rfl) (fun x228 hf => ?_)
            refine sj_goto 23 dL_law_1959 (by decide) ?_
            exact sj_loc [3, 4, 5, 6, 0] rfl (Hk23 (w0, w1, w2, w3, x228) _ _ hf)
          · refine sj_iconst (v := 0) dL_law_1659 (by decide) ?_
            exact sj_zretC (o := sd_oI) (ty := .boolean) rfl hf rfl rfl rfl dL_law_1660
      · refine sj_iconst (v := 0) dL_law_1642 (by decide) ?_
        exact sj_zretC (o := sd_oI) (ty := .boolean) rfl hf rfl rfl rfl dL_law_1643
    rw [if_neg e40_32] at hf
    by_cases e40_33 : x6 = 33
    · rw [if_pos e40_33] at hf
      refine sj_tsw 1664 dL_law_40 (k := 33) e40_33 (by decide) (by decide) (by decide) (by decide) ?_
      refine sj_aload_n 1 dL_law_1664 rfl ?_
      refine sj_aload_n 0 dL_law_1665 rfl ?_
      refine sj_iload 4 dL_law_1666 rfl ?_
      refine sj_iconst (v := 1) dL_law_1668 (by decide) ?_
      refine sj_iadd dL_law_1669 ?_
      refine sj_iald hf dL_law_1670 (fun v229 hf => ?_)
      refine sj_aload_n 3 dL_law_1671 rfl ?_
      refine sj_cI (rest := []) (fun _ _ _ e => sj_runSW (n := 3) (rest := []) (sX0_passDays l hl G w1 v229 w3 h _ _ _ e) rfl rfl q2579 q2580 q115 q2581 (by decide +kernel) rfl ⟨Nat.le_of_ble_eq_true rfl, Nat.le_of_ble_eq_true rfl⟩ rfl (Nat.le_of_ble_eq_true rfl) dL_law_1672) hf (fun r230 h c hf => ?_)
      refine sj_istore [(5, .int r230), (0, .ref w0), (1, .ref w1), (2, .ref w2), (3, .ref w3), (4, .int w4)] dL_law_1675 (by decide) rfl ?_
      refine sj_aload_n 3 dL_law_1677 rfl ?_
      refine sj_aload_n 1 dL_law_1678 rfl ?_
      refine sj_iload 5 dL_law_1679 rfl ?_
      refine sj_iconst (v := 1) dL_law_1681 (by decide) ?_
      refine sj_iadd dL_law_1682 ?_
      refine sj_iald hf dL_law_1683 (fun v231 hf => ?_)
      obtain ⟨fs1684, he1684, hf⟩ := sd_isC_some hf
      refine sj_cI (rest := []) (fun _ _ _ e => sj_runV (n := 1) (As := [.int v231]) (rest := []) (sX5_passDays l G w2 v231 h _ _ _ e) he1684 rfl rfl rfl rfl q3331 q3332 q3333 q127 q3334 (by decide +kernel) rfl rfl ⟨Nat.le_of_ble_eq_true rfl, Nat.le_of_ble_eq_true rfl⟩ rfl (Nat.le_of_ble_eq_true rfl) dL_law_1684) hf (fun r232 h c hf => ?_)
      refine sj_istore [(6, .int r232), (5, .int r230), (0, .ref w0), (1, .ref w1), (2, .ref w2), (3, .ref w3), (4, .int w4)] dL_law_1687 (by decide) rfl ?_
      refine sj_aload_n 4 dL_law_1689 rfl ?_
      obtain ⟨fs1690, he1690, hf⟩ := sd_isC_some hf
      refine sj_cI (rest := []) (fun _ _ _ e => sj_runV (n := 0) (As := []) (rest := []) (sX5_thrown l G w2 h _ _ _ e) he1690 rfl rfl rfl rfl q2905 q2906 q2907 q127 q2908 (by decide +kernel) rfl rfl ⟨Nat.le_of_ble_eq_true rfl, Nat.le_of_ble_eq_true rfl⟩ rfl (Nat.le_of_ble_eq_true rfl) dL_law_1690) hf (fun r233 h c hf => ?_)
      refine sj_iload 1 dL_law_1693 rfl ?_
      refine sj_iceq 1700 hf dL_law_1695 (by decide) (fun g1695 hf => ?_) (fun g1695 hf => ?_)
      · refine sj_iload 1 dL_law_1700 rfl ?_
        refine sj_ifne 1717 hf dL_law_1702 (by decide) (fun g1702 hf => ?_) (fun g1702 hf => ?_)
        · refine sj_goto 1956 dL_law_1717 (by decide) ?_
          refine sj_iincN 6 (fun x234 => [(4, .int x234), (6, .int r232), (5, .int r230), (0, .ref w0), (1, .ref w1), (2, .ref w2), (3, .ref w3)]) 6 hf dL_law_1956 rfl (by decide) (by decide) (fun _ => rfl) (fun x234 hf => ?_)
          refine sj_goto 23 dL_law_1959 (by decide) ?_
          exact sj_loc [3, 4, 5, 6, 0] rfl (Hk23 (w0, w1, w2, w3, x234) _ _ hf)
        · refine sj_aload_n 5 dL_law_1705 rfl ?_
          refine sj_iconst (v := 0) dL_law_1706 (by decide) ?_
          refine sj_lald hf dL_law_1707 (fun v235 hf => ?_)
          refine sj_iload 0 dL_law_1708 rfl ?_
          refine sj_i2l dL_law_1710 ?_
          refine sj_lcmp dL_law_1711 ?_
          refine sj_ifeq 1717 hf dL_law_1712 (by decide) (fun g1712 hf => ?_) (fun g1712 hf => ?_)
          · refine sj_goto 1956 dL_law_1717 (by decide) ?_
            refine sj_iincN 6 (fun x236 => [(4, .int x236), (6, .int r232), (5, .int r230), (0, .ref w0), (1, .ref w1), (2, .ref w2), (3, .ref w3)]) 6 hf dL_law_1956 rfl (by decide) (by decide) (fun _ => rfl) (fun x236 hf => ?_)
            refine sj_goto 23 dL_law_1959 (by decide) ?_
            exact sj_loc [3, 4, 5, 6, 0] rfl (Hk23 (w0, w1, w2, w3, x236) _ _ hf)
          · refine sj_iconst (v := 0) dL_law_1715 (by decide) ?_
            exact sj_zretC (o := sd_oI) (ty := .boolean) rfl hf rfl rfl rfl dL_law_1716
      · refine sj_iconst (v := 0) dL_law_1698 (by decide) ?_
        exact sj_zretC (o := sd_oI) (ty := .boolean) rfl hf rfl rfl rfl dL_law_1699
    rw [if_neg e40_33] at hf
    by_cases e40_34 : x6 = 34
    · rw [if_pos e40_34] at hf
      refine sj_tsw 1720 dL_law_40 (k := 34) e40_34 (by decide) (by decide) (by decide) (by decide) ?_
      refine sj_aload_n 1 dL_law_1720 rfl ?_
      refine sj_aload_n 0 dL_law_1721 rfl ?_
      refine sj_iload 4 dL_law_1722 rfl ?_
      refine sj_iconst (v := 1) dL_law_1724 (by decide) ?_
      refine sj_iadd dL_law_1725 ?_
      refine sj_iald hf dL_law_1726 (fun v237 hf => ?_)
      refine sj_aload_n 3 dL_law_1727 rfl ?_
      refine sj_cI (rest := []) (fun _ _ _ e => sj_runSW (n := 3) (rest := []) (sX0_foundAfter l hl G w1 v237 w3 h _ _ _ e) rfl rfl q2738 q2739 q115 q2740 (by decide +kernel) rfl ⟨Nat.le_of_ble_eq_true rfl, Nat.le_of_ble_eq_true rfl⟩ rfl (Nat.le_of_ble_eq_true rfl) dL_law_1728) hf (fun r238 h c hf => ?_)
      refine sj_istore [(5, .int r238), (0, .ref w0), (1, .ref w1), (2, .ref w2), (3, .ref w3), (4, .int w4)] dL_law_1731 (by decide) rfl ?_
      refine sj_aload_n 3 dL_law_1733 rfl ?_
      refine sj_aload_n 1 dL_law_1734 rfl ?_
      refine sj_iload 5 dL_law_1735 rfl ?_
      refine sj_iconst (v := 1) dL_law_1737 (by decide) ?_
      refine sj_iadd dL_law_1738 ?_
      refine sj_iald hf dL_law_1739 (fun v239 hf => ?_)
      obtain ⟨fs1740, he1740, hf⟩ := sd_isC_some hf
      refine sj_cI (rest := []) (fun _ _ _ e => sj_runV (n := 1) (As := [.int v239]) (rest := []) (sX5_foundAfter l G w2 v239 h _ _ _ e) he1740 rfl rfl rfl rfl q3371 q3372 q3373 q127 q3374 (by decide +kernel) rfl rfl ⟨Nat.le_of_ble_eq_true rfl, Nat.le_of_ble_eq_true rfl⟩ rfl (Nat.le_of_ble_eq_true rfl) dL_law_1740) hf (fun r240 h c hf => ?_)
      refine sj_istore [(6, .int r240), (5, .int r238), (0, .ref w0), (1, .ref w1), (2, .ref w2), (3, .ref w3), (4, .int w4)] dL_law_1743 (by decide) rfl ?_
      refine sj_aload_n 4 dL_law_1745 rfl ?_
      obtain ⟨fs1746, he1746, hf⟩ := sd_isC_some hf
      refine sj_cI (rest := []) (fun _ _ _ e => sj_runV (n := 0) (As := []) (rest := []) (sX5_thrown l G w2 h _ _ _ e) he1746 rfl rfl rfl rfl q2905 q2906 q2907 q127 q2908 (by decide +kernel) rfl rfl ⟨Nat.le_of_ble_eq_true rfl, Nat.le_of_ble_eq_true rfl⟩ rfl (Nat.le_of_ble_eq_true rfl) dL_law_1746) hf (fun r241 h c hf => ?_)
      refine sj_iload 1 dL_law_1749 rfl ?_
      refine sj_iceq 1756 hf dL_law_1751 (by decide) (fun g1751 hf => ?_) (fun g1751 hf => ?_)
      · refine sj_iload 1 dL_law_1756 rfl ?_
        refine sj_ifne 1773 hf dL_law_1758 (by decide) (fun g1758 hf => ?_) (fun g1758 hf => ?_)
        · refine sj_goto 1956 dL_law_1773 (by decide) ?_
          refine sj_iincN 6 (fun x242 => [(4, .int x242), (6, .int r240), (5, .int r238), (0, .ref w0), (1, .ref w1), (2, .ref w2), (3, .ref w3)]) 6 hf dL_law_1956 rfl (by decide) (by decide) (fun _ => rfl) (fun x242 hf => ?_)
          refine sj_goto 23 dL_law_1959 (by decide) ?_
          exact sj_loc [3, 4, 5, 6, 0] rfl (Hk23 (w0, w1, w2, w3, x242) _ _ hf)
        · refine sj_aload_n 5 dL_law_1761 rfl ?_
          refine sj_iconst (v := 0) dL_law_1762 (by decide) ?_
          refine sj_lald hf dL_law_1763 (fun v243 hf => ?_)
          refine sj_iload 0 dL_law_1764 rfl ?_
          refine sj_i2l dL_law_1766 ?_
          refine sj_lcmp dL_law_1767 ?_
          refine sj_ifeq 1773 hf dL_law_1768 (by decide) (fun g1768 hf => ?_) (fun g1768 hf => ?_)
          · refine sj_goto 1956 dL_law_1773 (by decide) ?_
            refine sj_iincN 6 (fun x244 => [(4, .int x244), (6, .int r240), (5, .int r238), (0, .ref w0), (1, .ref w1), (2, .ref w2), (3, .ref w3)]) 6 hf dL_law_1956 rfl (by decide) (by decide) (fun _ => rfl) (fun x244 hf => ?_)
            refine sj_goto 23 dL_law_1959 (by decide) ?_
            exact sj_loc [3, 4, 5, 6, 0] rfl (Hk23 (w0, w1, w2, w3, x244) _ _ hf)
          · refine sj_iconst (v := 0) dL_law_1771 (by decide) ?_
            exact sj_zretC (o := sd_oI) (ty := .boolean) rfl hf rfl rfl rfl dL_law_1772
      · refine sj_iconst (v := 0) dL_law_1754 (by decide) ?_
        exact sj_zretC (o := sd_oI) (ty := .boolean) rfl hf rfl rfl rfl dL_law_1755
    rw [if_neg e40_34] at hf
    by_cases e40_35 : x6 = 35
    · rw [if_pos e40_35] at hf
      refine sj_tsw 1776 dL_law_40 (k := 35) e40_35 (by decide) (by decide) (by decide) (by decide) ?_
      refine sj_aload_n 1 dL_law_1776 rfl ?_
      refine sj_aload_n 0 dL_law_1777 rfl ?_
      refine sj_iload 4 dL_law_1778 rfl ?_
      refine sj_iconst (v := 1) dL_law_1780 (by decide) ?_
      refine sj_iadd dL_law_1781 ?_
      refine sj_iald hf dL_law_1782 (fun v245 hf => ?_)
      refine sj_aload_n 3 dL_law_1783 rfl ?_
      refine sj_cI (rest := []) (fun _ _ _ e => sj_runSW (n := 3) (rest := []) (sX0_daysUntilFound l hl G w1 v245 w3 h _ _ _ e) rfl rfl q2745 q2746 q115 q2747 (by decide +kernel) rfl ⟨Nat.le_of_ble_eq_true rfl, Nat.le_of_ble_eq_true rfl⟩ rfl (Nat.le_of_ble_eq_true rfl) dL_law_1784) hf (fun r246 h c hf => ?_)
      refine sj_istore [(5, .int r246), (0, .ref w0), (1, .ref w1), (2, .ref w2), (3, .ref w3), (4, .int w4)] dL_law_1787 (by decide) rfl ?_
      refine sj_aload_n 3 dL_law_1789 rfl ?_
      refine sj_aload_n 1 dL_law_1790 rfl ?_
      refine sj_iload 5 dL_law_1791 rfl ?_
      refine sj_iconst (v := 1) dL_law_1793 (by decide) ?_
      refine sj_iadd dL_law_1794 ?_
      refine sj_iald hf dL_law_1795 (fun v247 hf => ?_)
      obtain ⟨fs1796, he1796, hf⟩ := sd_isC_some hf
      refine sj_cI (rest := []) (fun _ _ _ e => sj_runV (n := 1) (As := [.int v247]) (rest := []) (sX5_daysUntilFound l G w2 v247 h _ _ _ e) he1796 rfl rfl rfl rfl q3384 q3385 q3386 q127 q3387 (by decide +kernel) rfl rfl ⟨Nat.le_of_ble_eq_true rfl, Nat.le_of_ble_eq_true rfl⟩ rfl (Nat.le_of_ble_eq_true rfl) dL_law_1796) hf (fun r248 h c hf => ?_)
      refine sj_istore [(6, .int r248), (5, .int r246), (0, .ref w0), (1, .ref w1), (2, .ref w2), (3, .ref w3), (4, .int w4)] dL_law_1799 (by decide) rfl ?_
      refine sj_aload_n 4 dL_law_1801 rfl ?_
      obtain ⟨fs1802, he1802, hf⟩ := sd_isC_some hf
      refine sj_cI (rest := []) (fun _ _ _ e => sj_runV (n := 0) (As := []) (rest := []) (sX5_thrown l G w2 h _ _ _ e) he1802 rfl rfl rfl rfl q2905 q2906 q2907 q127 q2908 (by decide +kernel) rfl rfl ⟨Nat.le_of_ble_eq_true rfl, Nat.le_of_ble_eq_true rfl⟩ rfl (Nat.le_of_ble_eq_true rfl) dL_law_1802) hf (fun r249 h c hf => ?_)
      refine sj_iload 1 dL_law_1805 rfl ?_
      refine sj_iceq 1812 hf dL_law_1807 (by decide) (fun g1807 hf => ?_) (fun g1807 hf => ?_)
      · refine sj_iload 1 dL_law_1812 rfl ?_
        refine sj_ifne 1829 hf dL_law_1814 (by decide) (fun g1814 hf => ?_) (fun g1814 hf => ?_)
        · refine sj_goto 1956 dL_law_1829 (by decide) ?_
          refine sj_iincN 6 (fun x250 => [(4, .int x250), (6, .int r248), (5, .int r246), (0, .ref w0), (1, .ref w1), (2, .ref w2), (3, .ref w3)]) 6 hf dL_law_1956 rfl (by decide) (by decide) (fun _ => rfl) (fun x250 hf => ?_)
          refine sj_goto 23 dL_law_1959 (by decide) ?_
          exact sj_loc [3, 4, 5, 6, 0] rfl (Hk23 (w0, w1, w2, w3, x250) _ _ hf)
        · refine sj_aload_n 5 dL_law_1817 rfl ?_
          refine sj_iconst (v := 0) dL_law_1818 (by decide) ?_
          refine sj_lald hf dL_law_1819 (fun v251 hf => ?_)
          refine sj_iload 0 dL_law_1820 rfl ?_
          refine sj_i2l dL_law_1822 ?_
          refine sj_lcmp dL_law_1823 ?_
          refine sj_ifeq 1829 hf dL_law_1824 (by decide) (fun g1824 hf => ?_) (fun g1824 hf => ?_)
          · refine sj_goto 1956 dL_law_1829 (by decide) ?_
            refine sj_iincN 6 (fun x252 => [(4, .int x252), (6, .int r248), (5, .int r246), (0, .ref w0), (1, .ref w1), (2, .ref w2), (3, .ref w3)]) 6 hf dL_law_1956 rfl (by decide) (by decide) (fun _ => rfl) (fun x252 hf => ?_)
            refine sj_goto 23 dL_law_1959 (by decide) ?_
            exact sj_loc [3, 4, 5, 6, 0] rfl (Hk23 (w0, w1, w2, w3, x252) _ _ hf)
          · refine sj_iconst (v := 0) dL_law_1827 (by decide) ?_
            exact sj_zretC (o := sd_oI) (ty := .boolean) rfl hf rfl rfl rfl dL_law_1828
      · refine sj_iconst (v := 0) dL_law_1810 (by decide) ?_
        exact sj_zretC (o := sd_oI) (ty := .boolean) rfl hf rfl rfl rfl dL_law_1811
    rw [if_neg e40_35] at hf
    by_cases e40_36 : x6 = 36
    · rw [if_pos e40_36] at hf
      refine sj_tsw 1832 dL_law_40 (k := 36) e40_36 (by decide) (by decide) (by decide) (by decide) ?_
      refine sj_aload_n 1 dL_law_1832 rfl ?_
      refine sj_aload_n 0 dL_law_1833 rfl ?_
      refine sj_iload 4 dL_law_1834 rfl ?_
      refine sj_iconst (v := 1) dL_law_1836 (by decide) ?_
      refine sj_iadd dL_law_1837 ?_
      refine sj_iald hf dL_law_1838 (fun v253 hf => ?_)
      refine sj_aload_n 3 dL_law_1839 rfl ?_
      refine sj_cI (rest := []) (fun _ _ _ e => sj_runSW (n := 3) (rest := []) (sX0_wouldSlide l hl G w1 v253 w3 h _ _ _ e) rfl rfl q2752 q2753 q115 q2754 (by decide +kernel) rfl ⟨Nat.le_of_ble_eq_true rfl, Nat.le_of_ble_eq_true rfl⟩ rfl (Nat.le_of_ble_eq_true rfl) dL_law_1840) hf (fun r254 h c hf => ?_)
      refine sj_istore [(5, .int r254), (0, .ref w0), (1, .ref w1), (2, .ref w2), (3, .ref w3), (4, .int w4)] dL_law_1843 (by decide) rfl ?_
      refine sj_aload_n 3 dL_law_1845 rfl ?_
      refine sj_aload_n 1 dL_law_1846 rfl ?_
      refine sj_iload 5 dL_law_1847 rfl ?_
      refine sj_iconst (v := 1) dL_law_1849 (by decide) ?_
      refine sj_iadd dL_law_1850 ?_
      refine sj_iald hf dL_law_1851 (fun v255 hf => ?_)
      obtain ⟨fs1852, he1852, hf⟩ := sd_isC_some hf
      refine sj_cI (rest := []) (fun _ _ _ e => sj_runV (n := 1) (As := [.int v255]) (rest := []) (sX5_wouldSlide l G w2 v255 h _ _ _ e) he1852 rfl rfl rfl rfl q3388 q3389 q3390 q127 q3391 (by decide +kernel) rfl rfl ⟨Nat.le_of_ble_eq_true rfl, Nat.le_of_ble_eq_true rfl⟩ rfl (Nat.le_of_ble_eq_true rfl) dL_law_1852) hf (fun r256 h c hf => ?_)
      refine sj_istore [(6, .int r256), (5, .int r254), (0, .ref w0), (1, .ref w1), (2, .ref w2), (3, .ref w3), (4, .int w4)] dL_law_1855 (by decide) rfl ?_
      refine sj_aload_n 4 dL_law_1857 rfl ?_
      obtain ⟨fs1858, he1858, hf⟩ := sd_isC_some hf
      refine sj_cI (rest := []) (fun _ _ _ e => sj_runV (n := 0) (As := []) (rest := []) (sX5_thrown l G w2 h _ _ _ e) he1858 rfl rfl rfl rfl q2905 q2906 q2907 q127 q2908 (by decide +kernel) rfl rfl ⟨Nat.le_of_ble_eq_true rfl, Nat.le_of_ble_eq_true rfl⟩ rfl (Nat.le_of_ble_eq_true rfl) dL_law_1858) hf (fun r257 h c hf => ?_)
      refine sj_iload 1 dL_law_1861 rfl ?_
      refine sj_iceq 1868 hf dL_law_1863 (by decide) (fun g1863 hf => ?_) (fun g1863 hf => ?_)
      · refine sj_iload 1 dL_law_1868 rfl ?_
        refine sj_ifne 1885 hf dL_law_1870 (by decide) (fun g1870 hf => ?_) (fun g1870 hf => ?_)
        · refine sj_goto 1956 dL_law_1885 (by decide) ?_
          refine sj_iincN 6 (fun x258 => [(4, .int x258), (6, .int r256), (5, .int r254), (0, .ref w0), (1, .ref w1), (2, .ref w2), (3, .ref w3)]) 6 hf dL_law_1956 rfl (by decide) (by decide) (fun _ => rfl) (fun x258 hf => ?_)
          refine sj_goto 23 dL_law_1959 (by decide) ?_
          exact sj_loc [3, 4, 5, 6, 0] rfl (Hk23 (w0, w1, w2, w3, x258) _ _ hf)
        · refine sj_aload_n 5 dL_law_1873 rfl ?_
          refine sj_iconst (v := 0) dL_law_1874 (by decide) ?_
          refine sj_lald hf dL_law_1875 (fun v259 hf => ?_)
          refine sj_iload 0 dL_law_1876 rfl ?_
          refine sj_i2l dL_law_1878 ?_
          refine sj_lcmp dL_law_1879 ?_
          refine sj_ifeq 1885 hf dL_law_1880 (by decide) (fun g1880 hf => ?_) (fun g1880 hf => ?_)
          · refine sj_goto 1956 dL_law_1885 (by decide) ?_
            refine sj_iincN 6 (fun x260 => [(4, .int x260), (6, .int r256), (5, .int r254), (0, .ref w0), (1, .ref w1), (2, .ref w2), (3, .ref w3)]) 6 hf dL_law_1956 rfl (by decide) (by decide) (fun _ => rfl) (fun x260 hf => ?_)
            refine sj_goto 23 dL_law_1959 (by decide) ?_
            exact sj_loc [3, 4, 5, 6, 0] rfl (Hk23 (w0, w1, w2, w3, x260) _ _ hf)
          · refine sj_iconst (v := 0) dL_law_1883 (by decide) ?_
            exact sj_zretC (o := sd_oI) (ty := .boolean) rfl hf rfl rfl rfl dL_law_1884
      · refine sj_iconst (v := 0) dL_law_1866 (by decide) ?_
        exact sj_zretC (o := sd_oI) (ty := .boolean) rfl hf rfl rfl rfl dL_law_1867
    rw [if_neg e40_36] at hf
    by_cases e40_37 : x6 = 37
    · rw [if_pos e40_37] at hf
      refine sj_tsw 1888 dL_law_40 (k := 37) e40_37 (by decide) (by decide) (by decide) (by decide) ?_
      refine sj_aload_n 1 dL_law_1888 rfl ?_
      obtain ⟨fs1889, he1889, hf⟩ := sd_isC_some hf
      refine sj_cI (rest := []) (fun _ _ _ e => sj_runV (n := 0) (As := []) (rest := []) (sX1_bestDig l G w1 h _ _ _ e) he1889 rfl rfl rfl rfl q2150 q2151 q2152 q116 q2153 (by decide +kernel) rfl rfl ⟨Nat.le_of_ble_eq_true rfl, Nat.le_of_ble_eq_true rfl⟩ rfl (Nat.le_of_ble_eq_true rfl) dL_law_1889) hf (fun r261 h c hf => ?_)
      refine sj_aload_n 2 dL_law_1892 rfl ?_
      obtain ⟨fs1893, he1893, hf⟩ := sd_isC_some hf
      refine sj_cI (rest := [.int r261]) (fun _ _ _ e => sj_runV (n := 0) (As := []) (rest := [.int r261]) (sX5_bestDig l G w2 h _ _ _ e) he1893 rfl rfl rfl rfl q3396 q3397 q3398 q127 q3399 (by decide +kernel) rfl rfl ⟨Nat.le_of_ble_eq_true rfl, Nat.le_of_ble_eq_true rfl⟩ rfl (Nat.le_of_ble_eq_true rfl) dL_law_1893) hf (fun r262 h c hf => ?_)
      refine sj_iceq 1956 hf dL_law_1896 (by decide) (fun g1896 hf => ?_) (fun g1896 hf => ?_)
      · refine sj_iincN 4 (fun x263 => [(4, .int x263), (0, .ref w0), (1, .ref w1), (2, .ref w2), (3, .ref w3)]) 6 hf dL_law_1956 rfl (by decide) (by decide) (fun _ => rfl) (fun x263 hf => ?_)
        refine sj_goto 23 dL_law_1959 (by decide) ?_
        exact sj_loc [1, 2, 3, 4, 0] rfl (Hk23 (w0, w1, w2, w3, x263) _ _ hf)
      · refine sj_iconst (v := 0) dL_law_1899 (by decide) ?_
        exact sj_zretC (o := sd_oI) (ty := .boolean) rfl hf rfl rfl rfl dL_law_1900
    rw [if_neg e40_37] at hf
    by_cases e40_38 : x6 = 38
    · rw [if_pos e40_38] at hf
      refine sj_tsw 1901 dL_law_40 (k := 38) e40_38 (by decide) (by decide) (by decide) (by decide) ?_
      refine sj_aload_n 1 dL_law_1901 rfl ?_
      obtain ⟨fs1902, he1902, hf⟩ := sd_isC_some hf
      refine sj_cD (rest := []) (fun _ _ _ e => sj_runV (n := 0) (As := []) (rest := []) (sX1_meanYear l G w1 h _ _ _ e) he1902 rfl rfl rfl rfl q2268 q2269 q2270 q116 q2271 (by decide +kernel) rfl rfl ⟨Nat.le_of_ble_eq_true rfl, Nat.le_of_ble_eq_true rfl⟩ rfl (Nat.le_of_ble_eq_true rfl) dL_law_1902) hf (fun r264 h c hf => ?_)
      refine sj_dstore [(5, .double r264), (0, .ref w0), (1, .ref w1), (2, .ref w2), (3, .ref w3), (4, .int w4)] dL_law_1905 (by decide) rfl ?_
      refine sj_aload_n 3 dL_law_1907 rfl ?_
      obtain ⟨fs1908, he1908, hf⟩ := sd_isC_some hf
      refine sj_cD (rest := []) (fun _ _ _ e => sj_runV (n := 0) (As := []) (rest := []) (sX5_meanYear l G w2 h _ _ _ e) he1908 rfl rfl rfl rfl q3404 q3405 q3406 q127 q3407 (by decide +kernel) rfl rfl ⟨Nat.le_of_ble_eq_true rfl, Nat.le_of_ble_eq_true rfl⟩ rfl (Nat.le_of_ble_eq_true rfl) dL_law_1908) hf (fun r265 h c hf => ?_)
      refine sj_dstore [(7, .double r265), (5, .double r264), (0, .ref w0), (1, .ref w1), (2, .ref w2), (3, .ref w3), (4, .int w4)] dL_law_1911 (by decide) rfl ?_
      refine sj_dload 1 dL_law_1913 rfl ?_
      refine sj_dload 0 dL_law_1915 rfl ?_
      refine sj_dcmp dL_law_1917 ?_
      refine sj_ifeq 1939 hf dL_law_1918 (by decide) (fun g1918 hf => ?_) (fun g1918 hf => ?_)
      · refine sj_goto 1956 dL_law_1939 (by decide) ?_
        refine sj_iincN 6 (fun x266 => [(4, .int x266), (7, .double r265), (5, .double r264), (0, .ref w0), (1, .ref w1), (2, .ref w2), (3, .ref w3)]) 6 hf dL_law_1956 rfl (by decide) (by decide) (fun _ => rfl) (fun x266 hf => ?_)
        refine sj_goto 23 dL_law_1959 (by decide) ?_
        exact sj_loc [3, 4, 5, 6, 0] rfl (Hk23 (w0, w1, w2, w3, x266) _ _ hf)
      · refine sj_dload 1 dL_law_1921 rfl ?_
        refine sj_dload 1 dL_law_1923 rfl ?_
        refine sj_dcmp dL_law_1925 ?_
        refine sj_ifeq 1937 hf dL_law_1926 (by decide) (fun g1926 hf => ?_) (fun g1926 hf => ?_)
        · refine sj_iconst (v := 0) dL_law_1937 (by decide) ?_
          exact sj_zretC (o := sd_oI) (ty := .boolean) rfl hf rfl rfl rfl dL_law_1938
        · refine sj_dload 0 dL_law_1929 rfl ?_
          refine sj_dload 0 dL_law_1931 rfl ?_
          refine sj_dcmp dL_law_1933 ?_
          refine sj_ifne 1939 hf dL_law_1934 (by decide) (fun g1934 hf => ?_) (fun g1934 hf => ?_)
          · refine sj_goto 1956 dL_law_1939 (by decide) ?_
            refine sj_iincN 6 (fun x267 => [(4, .int x267), (7, .double r265), (5, .double r264), (0, .ref w0), (1, .ref w1), (2, .ref w2), (3, .ref w3)]) 6 hf dL_law_1956 rfl (by decide) (by decide) (fun _ => rfl) (fun x267 hf => ?_)
            refine sj_goto 23 dL_law_1959 (by decide) ?_
            exact sj_loc [3, 4, 5, 6, 0] rfl (Hk23 (w0, w1, w2, w3, x267) _ _ hf)
          · refine sj_iconst (v := 0) dL_law_1937 (by decide) ?_
            exact sj_zretC (o := sd_oI) (ty := .boolean) rfl hf rfl rfl rfl dL_law_1938
    rw [if_neg e40_38] at hf
    by_cases e40_39 : x6 = 39
    · rw [if_pos e40_39] at hf
      refine sj_tsw 1942 dL_law_40 (k := 39) e40_39 (by decide) (by decide) (by decide) (by decide) ?_
      refine sj_aload_n 1 dL_law_1942 rfl ?_
      obtain ⟨fs1943, he1943, hf⟩ := sd_isC_some hf
      refine sj_cL (rest := []) (fun _ _ _ e => sj_runV (n := 0) (As := []) (rest := []) (sX1_digest l G w1 h _ _ _ e) he1943 rfl rfl rfl rfl q2277 q2278 q2279 q116 q2280 (by decide +kernel) rfl rfl ⟨Nat.le_of_ble_eq_true rfl, Nat.le_of_ble_eq_true rfl⟩ rfl (Nat.le_of_ble_eq_true rfl) dL_law_1943) hf (fun r268 h c hf => ?_)
      refine sj_aload_n 2 dL_law_1946 rfl ?_
      obtain ⟨fs1947, he1947, hf⟩ := sd_isC_some hf
      refine sj_cL (rest := [.long r268]) (fun _ _ _ e => sj_runV (n := 0) (As := []) (rest := [.long r268]) (sX5_digest l G w2 h _ _ _ e) he1947 rfl rfl rfl rfl q3408 q3409 q3410 q127 q3411 (by decide +kernel) rfl rfl ⟨Nat.le_of_ble_eq_true rfl, Nat.le_of_ble_eq_true rfl⟩ rfl (Nat.le_of_ble_eq_true rfl) dL_law_1947) hf (fun r269 h c hf => ?_)
      refine sj_lcmp dL_law_1950 ?_
      refine sj_ifeq 1956 hf dL_law_1951 (by decide) (fun g1951 hf => ?_) (fun g1951 hf => ?_)
      · refine sj_iincN 4 (fun x270 => [(4, .int x270), (0, .ref w0), (1, .ref w1), (2, .ref w2), (3, .ref w3)]) 6 hf dL_law_1956 rfl (by decide) (by decide) (fun _ => rfl) (fun x270 hf => ?_)
        refine sj_goto 23 dL_law_1959 (by decide) ?_
        exact sj_loc [1, 2, 3, 4, 0] rfl (Hk23 (w0, w1, w2, w3, x270) _ _ hf)
      · refine sj_iconst (v := 0) dL_law_1954 (by decide) ?_
        exact sj_zretC (o := sd_oI) (ty := .boolean) rfl hf rfl rfl rfl dL_law_1955
    rw [if_neg e40_39] at hf
    refine sj_tswD 1956 dL_law_40 (by have z0 := lv_neT e40_0 (show (0 : Int32).toInt = 0 by decide); have z1 := lv_neT e40_1 (show (1 : Int32).toInt = 1 by decide); have z2 := lv_neT e40_2 (show (2 : Int32).toInt = 2 by decide); have z3 := lv_neT e40_3 (show (3 : Int32).toInt = 3 by decide); have z4 := lv_neT e40_4 (show (4 : Int32).toInt = 4 by decide); have z5 := lv_neT e40_5 (show (5 : Int32).toInt = 5 by decide); have z6 := lv_neT e40_6 (show (6 : Int32).toInt = 6 by decide); have z7 := lv_neT e40_7 (show (7 : Int32).toInt = 7 by decide); have z8 := lv_neT e40_8 (show (8 : Int32).toInt = 8 by decide); have z9 := lv_neT e40_9 (show (9 : Int32).toInt = 9 by decide); have z10 := lv_neT e40_10 (show (10 : Int32).toInt = 10 by decide); have z11 := lv_neT e40_11 (show (11 : Int32).toInt = 11 by decide); have z12 := lv_neT e40_12 (show (12 : Int32).toInt = 12 by decide); have z13 := lv_neT e40_13 (show (13 : Int32).toInt = 13 by decide); have z14 := lv_neT e40_14 (show (14 : Int32).toInt = 14 by decide); have z15 := lv_neT e40_15 (show (15 : Int32).toInt = 15 by decide); have z16 := lv_neT e40_16 (show (16 : Int32).toInt = 16 by decide); have z17 := lv_neT e40_17 (show (17 : Int32).toInt = 17 by decide); have z18 := lv_neT e40_18 (show (18 : Int32).toInt = 18 by decide); have z19 := lv_neT e40_19 (show (19 : Int32).toInt = 19 by decide); have z20 := lv_neT e40_20 (show (20 : Int32).toInt = 20 by decide); have z21 := lv_neT e40_21 (show (21 : Int32).toInt = 21 by decide); have z22 := lv_neT e40_22 (show (22 : Int32).toInt = 22 by decide); have z23 := lv_neT e40_23 (show (23 : Int32).toInt = 23 by decide); have z24 := lv_neT e40_24 (show (24 : Int32).toInt = 24 by decide); have z25 := lv_neT e40_25 (show (25 : Int32).toInt = 25 by decide); have z26 := lv_neT e40_26 (show (26 : Int32).toInt = 26 by decide); have z27 := lv_neT e40_27 (show (27 : Int32).toInt = 27 by decide); have z28 := lv_neT e40_28 (show (28 : Int32).toInt = 28 by decide); have z29 := lv_neT e40_29 (show (29 : Int32).toInt = 29 by decide); have z30 := lv_neT e40_30 (show (30 : Int32).toInt = 30 by decide); have z31 := lv_neT e40_31 (show (31 : Int32).toInt = 31 by decide); have z32 := lv_neT e40_32 (show (32 : Int32).toInt = 32 by decide); have z33 := lv_neT e40_33 (show (33 : Int32).toInt = 33 by decide); have z34 := lv_neT e40_34 (show (34 : Int32).toInt = 34 by decide); have z35 := lv_neT e40_35 (show (35 : Int32).toInt = 35 by decide); have z36 := lv_neT e40_36 (show (36 : Int32).toInt = 36 by decide); have z37 := lv_neT e40_37 (show (37 : Int32).toInt = 37 by decide); have z38 := lv_neT e40_38 (show (38 : Int32).toInt = 38 by decide); have z39 := lv_neT e40_39 (show (39 : Int32).toInt = 39 by decide); omega) (by decide) ?_
    refine sj_iincN 4 (fun x271 => [(4, .int x271), (0, .ref w0), (1, .ref w1), (2, .ref w2), (3, .ref w3)]) 6 hf dL_law_1956 rfl (by decide) (by decide) (fun _ => rfl) (fun x271 hf => ?_)
    refine sj_goto 23 dL_law_1959 (by decide) ?_
    exact sj_loc [1, 2, 3, 4, 0] rfl (Hk23 (w0, w1, w2, w3, x271) _ _ hf)
theorem sL_law_b23_loop (l : Launch) (hl : l.stackTraces = false) (G : sd_G) (a1 : Nat) (ρ : Int32) (h2 : sd_H) (cT : Nat × Nat) (n : Nat) : ∀ (q : Nat × Nat × Nat × Nat × Int32) (h : sd_H) (c : Nat × Nat), sd_loop (fun k s => fL_law_b23 G k s.1 s.2.1 s.2.2.1 s.2.2.2.1 s.2.2.2.2) n q h = some (ρ, c, h2) → sd_J mL_law ((l, G), (8192, 104096), [.ref a1], (sd_oI ρ, h2), cT) 23 [(0, .ref q.1), (1, .ref q.2.1), (2, .ref q.2.2.1), (3, .ref q.2.2.2.1), (4, .int q.2.2.2.2)] [] h c := by
  induction n with
  | zero => intro q h c hf; cases hf
  | succ n ih => intro q h c hf; exact sL_law_b23 l hl G a1 ρ h2 cT _ ih _ _ _ _ _ _ _ hf
def fL_law (G : sd_G) (a1 : Nat) : sd_M Int32 :=
  sd_bnd (sd_new 0 4 [.null, .int 0, .null, .null]) fun o1 =>
  sd_bnd (fX1_init G o1) fun _ =>
  sd_bnd (sd_new 4 18 [.int 0, .null, .int 0, .int 0, .null, .null, .null, .null, .null, .null, .int 0, .int 0, .int 0, .int 0, .int 0, .null, .null, .null]) fun o2 =>
  sd_bnd (fX5_init G o2) fun _ =>
  sd_bnd (sd_newL 1) fun o3 =>
  sd_loop (fun k s => fL_law_b23 G k s.1 s.2.1 s.2.2.1 s.2.2.2.1 s.2.2.2.2) sd_FU (a1, o1, o2, o3, 0)
set_option maxHeartbeats 40000000 in
theorem sL_law (l : Launch) (hl : l.stackTraces = false) (G : sd_G) (a1 : Nat) (h : sd_H) (ρ : Int32) (cT c0 : Nat × Nat) (h2 : sd_H) (hf : fL_law G a1 h = some (ρ, c0, h2)) : sd_J mL_law ((l, G), (8192, 104096), [.ref a1], (sd_oI ρ, h2), cT) 0 [(0, .ref a1)] [] h c0 := by
  unfold fL_law at hf
  refine sj_new fnX0_8 hf dL_law_0 (fun o1 h c hf => ?_)
  refine sj_dup dL_law_3 rfl ?_
  refine sj_cV (rest := [.ref o1]) (fun _ _ _ e => sj_runI (n := 0) (a := o1) (As := []) (rest := [.ref o1]) (sX1_init l G o1 h _ _ _ e) rfl rfl q184 q185 q116 q186 rfl (by decide +kernel) rfl rfl (fun _ z => by cases z) ⟨Nat.le_of_ble_eq_true rfl, Nat.le_of_ble_eq_true rfl⟩ rfl (Nat.le_of_ble_eq_true rfl) dL_law_4) hf (fun h c hf => ?_)
  refine sj_astore_n [(1, .ref o1), (0, .ref a1)] dL_law_7 (by decide) rfl ?_
  refine sj_new fnX0_95 hf dL_law_8 (fun o2 h c hf => ?_)
  refine sj_dup dL_law_11 rfl ?_
  refine sj_cV (rest := [.ref o2]) (fun _ _ _ e => sj_runI (n := 0) (a := o2) (As := []) (rest := [.ref o2]) (sX5_init l G o2 h _ _ _ e) rfl rfl q2761 q2762 q127 q2763 rfl (by decide +kernel) rfl rfl (fun _ z => by cases z) ⟨Nat.le_of_ble_eq_true rfl, Nat.le_of_ble_eq_true rfl⟩ rfl (Nat.le_of_ble_eq_true rfl) dL_law_12) hf (fun h c hf => ?_)
  refine sj_astore_n [(2, .ref o2), (1, .ref o1), (0, .ref a1)] dL_law_15 (by decide) rfl ?_
  refine sj_iconst (v := 1) dL_law_16 (by decide) ?_
  refine sj_newL q2844 hf dL_law_17 (fun o3 h c hf => ?_)
  refine sj_astore_n [(3, .ref o3), (2, .ref o2), (1, .ref o1), (0, .ref a1)] dL_law_19 (by decide) rfl ?_
  refine sj_iconst (v := 0) dL_law_20 (by decide) ?_
  refine sj_istore [(4, .int 0), (3, .ref o3), (2, .ref o2), (1, .ref o1), (0, .ref a1)] dL_law_21 (by decide) rfl ?_
  exact sj_loc [4, 3, 2, 1, 0] rfl (sL_law_b23_loop l hl G a1 ρ h2 cT sd_FU (a1, o1, o2, o3, 0) _ _ hf)
