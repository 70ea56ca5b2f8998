set_option maxRecDepth 100000
theorem q119 : (Jvm.Cond.initialized "java/util/AbstractCollection") ∈ lw_all := lw_g (lw_at lw_m1 4 rfl) rfl
theorem q120 : (Jvm.Cond.initialized "java/util/AbstractList") ∈ lw_all := lw_g (lw_at lw_m1 5 rfl) rfl
theorem q121 : (Jvm.Cond.initialized "java/util/ArrayList") ∈ lw_all := lw_g (lw_at lw_m1 6 rfl) rfl
theorem q123 : (Jvm.Cond.initialized "jdk/internal/util/ArraysSupport") ∈ lw_all := lw_g (lw_at lw_m1 8 rfl) rfl
theorem q125 : (Jvm.Cond.initialized "java/util/Arrays") ∈ lw_all := lw_g (lw_at lw_m1 10 rfl) rfl
theorem q150 : (Jvm.Cond.initialized "java/util/Objects") ∈ lw_all := lw_g (lw_at lw_m1 35 rfl) rfl
theorem q181 : (Jvm.Cond.initialized "java/util/ArrayList$Itr") ∈ lw_all := lw_g (lw_at lw_m1 66 rfl) rfl
theorem q216 : (Jvm.Cond.code ({ cls := "java/util/ArrayList", name := "<init>", desc := "()V" } : Jvm.MethodName) prog_80_method_2_code (1 : Nat) (Option.none : Option Jvm.ClassFile.FieldType)) ∈ lw_all := lw_g (lw_at lw_m1 101 rfl) rfl
theorem q217 : (Jvm.Cond.methodLink "java/util/ArrayList" (1 : Nat) ({ cls := "java/util/AbstractList", name := "<init>", desc := "()V" } : Jvm.MethodName)) ∈ lw_all := lw_g (lw_at lw_m1 102 rfl) rfl
theorem q218 : (Jvm.Cond.instanceMethod ({ cls := "java/util/AbstractList", name := "<init>", desc := "()V" } : Jvm.MethodName)) ∈ lw_all := lw_g (lw_at lw_m1 103 rfl) rfl
theorem q219 : (Jvm.Cond.code ({ cls := "java/util/AbstractList", name := "<init>", desc := "()V" } : Jvm.MethodName) prog_78_method_1_code (1 : Nat) (Option.none : Option Jvm.ClassFile.FieldType)) ∈ lw_all := lw_g (lw_at lw_m1 104 rfl) rfl
theorem q220 : (Jvm.Cond.methodLink "java/util/AbstractList" (1 : Nat) ({ cls := "java/util/AbstractCollection", name := "<init>", desc := "()V" } : Jvm.MethodName)) ∈ lw_all := lw_g (lw_at lw_m1 105 rfl) rfl
theorem q221 : (Jvm.Cond.instanceMethod ({ cls := "java/util/AbstractCollection", name := "<init>", desc := "()V" } : Jvm.MethodName)) ∈ lw_all := lw_g (lw_at lw_m1 106 rfl) rfl
theorem q222 : (Jvm.Cond.code ({ cls := "java/util/AbstractCollection", name := "<init>", desc := "()V" } : Jvm.MethodName) prog_77_method_1_code (1 : Nat) (Option.none : Option Jvm.ClassFile.FieldType)) ∈ lw_all := lw_g (lw_at lw_m1 107 rfl) rfl
theorem q223 : (Jvm.Cond.methodLink "java/util/AbstractCollection" (1 : Nat) ({ cls := "java/lang/Object", name := "<init>", desc := "()V" } : Jvm.MethodName)) ∈ lw_all := lw_g (lw_at lw_m1 108 rfl) rfl
theorem q224 : (Jvm.Cond.fieldLink "java/util/ArrayList" (39 : Nat) "java/util/ArrayList" "DEFAULTCAPACITY_EMPTY_ELEMENTDATA" "[Ljava/lang/Object;") ∈ lw_all := lw_g (lw_at lw_m1 109 rfl) rfl
theorem q226 : (Jvm.Cond.fieldLink "java/util/ArrayList" (9 : Nat) "java/util/ArrayList" "elementData" "[Ljava/lang/Object;") ∈ lw_all := lw_g (lw_at lw_m1 111 rfl) rfl
theorem q227 : (Jvm.Cond.fieldLink "java/util/ArrayList$Itr" (37 : Nat) "java/util/ArrayList" "elementData" "[Ljava/lang/Object;") ∈ lw_all := lw_g (lw_at lw_m1 112 rfl) rfl
theorem q228 : (Jvm.Cond.fieldLinkNest "java/util/ArrayList$Itr" (28 : Nat) "java/util/ArrayList" "size" "I" "java/util/ArrayList") ∈ lw_tbl := lw_at lw_m1 113 rfl
theorem q229 : (Jvm.Cond.fieldLink "java/util/ArrayList" (48 : Nat) "java/util/ArrayList" "size" "I") ∈ lw_all := lw_g (lw_at lw_m1 114 rfl) rfl
theorem q230 : (Jvm.Cond.fieldLink "java/util/AbstractList" (7 : Nat) "java/util/AbstractList" "modCount" "I") ∈ lw_all := lw_g (lw_at lw_m1 115 rfl) rfl
theorem q231 : (Jvm.Cond.fieldLink "java/util/ArrayList$Itr" (17 : Nat) "java/util/ArrayList" "modCount" "I") ∈ lw_all := lw_g (lw_at lw_m1 116 rfl) rfl
theorem q232 : (Jvm.Cond.sameField "java/util/ArrayList" "java/util/AbstractList" "modCount" "I") ∈ lw_all := lw_g (lw_at lw_m1 117 rfl) rfl
theorem q233 : (Jvm.Cond.fieldLink "java/util/ArrayList" (63 : Nat) "java/util/ArrayList" "modCount" "I") ∈ lw_all := lw_g (lw_at lw_m1 118 rfl) rfl
theorem q308 : (Jvm.Cond.code ({ cls := "java/util/ArrayList", name := "clear", desc := "()V" } : Jvm.MethodName) prog_80_method_40_code (4 : Nat) (Option.none : Option Jvm.ClassFile.FieldType)) ∈ lw_all := lw_g (lw_at lw_m1 193 rfl) rfl
theorem q340 : (Jvm.Cond.code ({ cls := "java/util/ArrayList", name := "add", desc := "(Ljava/lang/Object;)Z" } : Jvm.MethodName) prog_80_method_25_code (2 : Nat) (Option.some Jvm.ClassFile.FieldType.boolean)) ∈ lw_all := lw_g (lw_at lw_m1 225 rfl) rfl
theorem q341 : (Jvm.Cond.methodLink "java/util/ArrayList" (131 : Nat) ({ cls := "java/util/ArrayList", name := "add", desc := "(Ljava/lang/Object;[Ljava/lang/Object;I)V" } : Jvm.MethodName)) ∈ lw_all := lw_g (lw_at lw_m1 226 rfl) rfl
theorem q343 : (Jvm.Cond.instanceMethod ({ cls := "java/util/ArrayList", name := "add", desc := "(Ljava/lang/Object;[Ljava/lang/Object;I)V" } : Jvm.MethodName)) ∈ lw_all := lw_g (lw_at lw_m1 228 rfl) rfl
theorem q344 : (Jvm.Cond.code ({ cls := "java/util/ArrayList", name := "add", desc := "(Ljava/lang/Object;[Ljava/lang/Object;I)V" } : Jvm.MethodName) prog_80_method_24_code (4 : Nat) (Option.none : Option Jvm.ClassFile.FieldType)) ∈ lw_all := lw_g (lw_at lw_m1 229 rfl) rfl
theorem q345 : (Jvm.Cond.methodLink "java/util/ArrayList" (129 : Nat) ({ cls := "java/util/ArrayList", name := "grow", desc := "()[Ljava/lang/Object;" } : Jvm.MethodName)) ∈ lw_all := lw_g (lw_at lw_m1 230 rfl) rfl
theorem q347 : (Jvm.Cond.instanceMethod ({ cls := "java/util/ArrayList", name := "grow", desc := "()[Ljava/lang/Object;" } : Jvm.MethodName)) ∈ lw_all := lw_g (lw_at lw_m1 232 rfl) rfl
theorem q348 : (Jvm.Cond.code ({ cls := "java/util/ArrayList", name := "grow", desc := "()[Ljava/lang/Object;" } : Jvm.MethodName) prog_80_method_7_code (1 : Nat) (Option.some (Jvm.ClassFile.FieldType.array (Jvm.ClassFile.FieldType.object "java/lang/Object")))) ∈ lw_all := lw_g (lw_at lw_m1 233 rfl) rfl
theorem q349 : (Jvm.Cond.methodLink "java/util/ArrayList" (69 : Nat) ({ cls := "java/util/ArrayList", name := "grow", desc := "(I)[Ljava/lang/Object;" } : Jvm.MethodName)) ∈ lw_all := lw_g (lw_at lw_m1 234 rfl) rfl
theorem q351 : (Jvm.Cond.instanceMethod ({ cls := "java/util/ArrayList", name := "grow", desc := "(I)[Ljava/lang/Object;" } : Jvm.MethodName)) ∈ lw_all := lw_g (lw_at lw_m1 236 rfl) rfl
theorem q352 : (Jvm.Cond.code ({ cls := "java/util/ArrayList", name := "grow", desc := "(I)[Ljava/lang/Object;" } : Jvm.MethodName) prog_80_method_6_code (4 : Nat) (Option.some (Jvm.ClassFile.FieldType.array (Jvm.ClassFile.FieldType.object "java/lang/Object")))) ∈ lw_all := lw_g (lw_at lw_m1 237 rfl) rfl
theorem q353 : (Jvm.Cond.methodLink "java/util/ArrayList" (73 : Nat) ({ cls := "jdk/internal/util/ArraysSupport", name := "newLength", desc := "(III)I" } : Jvm.MethodName)) ∈ lw_all := lw_g (lw_at lw_m1 238 rfl) rfl
theorem q354 : (Jvm.Cond.static ({ cls := "jdk/internal/util/ArraysSupport", name := "newLength", desc := "(III)I" } : Jvm.MethodName)) ∈ lw_all := lw_g (lw_at lw_m1 239 rfl) rfl
theorem q355 : (Jvm.Cond.code ({ cls := "jdk/internal/util/ArraysSupport", name := "newLength", desc := "(III)I" } : Jvm.MethodName) prog_98_method_27_code (4 : Nat) (Option.some Jvm.ClassFile.FieldType.int)) ∈ lw_all := lw_g (lw_at lw_m2 0 rfl) rfl
theorem q356 : (Jvm.Cond.methodLink "jdk/internal/util/ArraysSupport" (194 : Nat) ({ cls := "java/lang/Math", name := "max", desc := "(II)I" } : Jvm.MethodName)) ∈ lw_all := lw_g (lw_at lw_m2 1 rfl) rfl
theorem q359 : (Jvm.Cond.constant "jdk/internal/util/ArraysSupport" (200 : Nat) (2147483639 : Int32)) ∈ lw_all := lw_g (lw_at lw_m2 4 rfl) rfl
theorem q363 : (Jvm.Cond.methodLink "java/util/ArrayList" (66 : Nat) ({ cls := "java/util/Arrays", name := "copyOf", desc := "([Ljava/lang/Object;I)[Ljava/lang/Object;" } : Jvm.MethodName)) ∈ lw_all := lw_g (lw_at lw_m2 8 rfl) rfl
theorem q364 : (Jvm.Cond.static ({ cls := "java/util/Arrays", name := "copyOf", desc := "([Ljava/lang/Object;I)[Ljava/lang/Object;" } : Jvm.MethodName)) ∈ lw_all := lw_g (lw_at lw_m2 9 rfl) rfl
theorem q365 : (Jvm.Cond.code ({ cls := "java/util/Arrays", name := "copyOf", desc := "([Ljava/lang/Object;I)[Ljava/lang/Object;" } : Jvm.MethodName) prog_82_method_119_code (2 : Nat) (Option.some (Jvm.ClassFile.FieldType.array (Jvm.ClassFile.FieldType.object "java/lang/Object")))) ∈ lw_all := lw_g (lw_at lw_m2 10 rfl) rfl
theorem q366 : (Jvm.Cond.methodLink "java/util/Arrays" (86 : Nat) ({ cls := "java/lang/Object", name := "getClass", desc := "()Ljava/lang/Class;" } : Jvm.MethodName)) ∈ lw_all := lw_g (lw_at lw_m2 11 rfl) rfl
theorem q367 : (Jvm.Cond.instanceMethod ({ cls := "java/lang/Object", name := "getClass", desc := "()Ljava/lang/Class;" } : Jvm.MethodName)) ∈ lw_all := lw_g (lw_at lw_m2 12 rfl) rfl
theorem q424 : (Jvm.Cond.native ({ cls := "java/lang/Object", name := "getClass", desc := "()Ljava/lang/Class;" } : Jvm.MethodName)) ∈ lw_all := lw_g (lw_at lw_m2 69 rfl) rfl
theorem q425 : (Jvm.Cond.methodLink "java/util/Arrays" (300 : Nat) ({ cls := "java/util/Arrays", name := "copyOf", desc := "([Ljava/lang/Object;ILjava/lang/Class;)[Ljava/lang/Object;" } : Jvm.MethodName)) ∈ lw_all := lw_g (lw_at lw_m2 70 rfl) rfl
theorem q426 : (Jvm.Cond.static ({ cls := "java/util/Arrays", name := "copyOf", desc := "([Ljava/lang/Object;ILjava/lang/Class;)[Ljava/lang/Object;" } : Jvm.MethodName)) ∈ lw_all := lw_g (lw_at lw_m2 71 rfl) rfl
theorem q427 : (Jvm.Cond.code ({ cls := "java/util/Arrays", name := "copyOf", desc := "([Ljava/lang/Object;ILjava/lang/Class;)[Ljava/lang/Object;" } : Jvm.MethodName) prog_82_method_120_code (4 : Nat) (Option.some (Jvm.ClassFile.FieldType.array (Jvm.ClassFile.FieldType.object "java/lang/Object")))) ∈ lw_all := lw_g (lw_at lw_m2 72 rfl) rfl
theorem q428 : (Jvm.Cond.classLink "java/util/Arrays" (110 : Nat) "[Ljava/lang/Object;") ∈ lw_all := lw_g (lw_at lw_m2 73 rfl) rfl
theorem q430 : (Jvm.Cond.classLink "java/util/Arrays" (2 : Nat) "java/lang/Object") ∈ lw_all := lw_g (lw_at lw_m2 75 rfl) rfl
theorem q431 : (Jvm.Cond.methodLink "java/util/Arrays" (304 : Nat) ({ cls := "java/lang/Math", name := "min", desc := "(II)I" } : Jvm.MethodName)) ∈ lw_all := lw_g (lw_at lw_m2 76 rfl) rfl
theorem q434 : (Jvm.Cond.methodLink "java/util/Arrays" (150 : Nat) ({ cls := "java/lang/System", name := "arraycopy", desc := "(Ljava/lang/Object;ILjava/lang/Object;II)V" } : Jvm.MethodName)) ∈ lw_all := lw_g (lw_at lw_m2 79 rfl) rfl
theorem q437 : (Jvm.Cond.methodLink "java/util/ArrayList" (79 : Nat) ({ cls := "java/lang/Math", name := "max", desc := "(II)I" } : Jvm.MethodName)) ∈ lw_all := lw_g (lw_at lw_m2 82 rfl) rfl
theorem q438 : (Jvm.Cond.classLink "java/util/ArrayList" (7 : Nat) "java/lang/Object") ∈ lw_all := lw_g (lw_at lw_m2 83 rfl) rfl
theorem q492 : (Jvm.Cond.code ({ cls := "java/util/ArrayList", name := "size", desc := "()I" } : Jvm.MethodName) prog_80_method_8_code (1 : Nat) (Option.some Jvm.ClassFile.FieldType.int)) ∈ lw_all := lw_g (lw_at lw_m2 137 rfl) rfl
theorem q1004 : (Jvm.Cond.code ({ cls := "java/util/ArrayList", name := "get", desc := "(I)Ljava/lang/Object;" } : Jvm.MethodName) prog_80_method_20_code (2 : Nat) (Option.some (Jvm.ClassFile.FieldType.object "java/lang/Object"))) ∈ lw_all := lw_g (lw_at lw_m4 169 rfl) rfl
theorem q1005 : (Jvm.Cond.methodLink "java/util/ArrayList" (118 : Nat) ({ cls := "java/util/Objects", name := "checkIndex", desc := "(II)I" } : Jvm.MethodName)) ∈ lw_all := lw_g (lw_at lw_m4 170 rfl) rfl
theorem q1006 : (Jvm.Cond.static ({ cls := "java/util/Objects", name := "checkIndex", desc := "(II)I" } : Jvm.MethodName)) ∈ lw_all := lw_g (lw_at lw_m4 171 rfl) rfl
theorem q1007 : (Jvm.Cond.code ({ cls := "java/util/Objects", name := "checkIndex", desc := "(II)I" } : Jvm.MethodName) prog_92_method_17_code (2 : Nat) (Option.some Jvm.ClassFile.FieldType.int)) ∈ lw_all := lw_g (lw_at lw_m4 172 rfl) rfl
theorem q1008 : (Jvm.Cond.methodLink "java/util/Objects" (105 : Nat) ({ cls := "jdk/internal/util/Preconditions", name := "checkIndex", desc := "(IILjava/util/function/BiFunction;)I" } : Jvm.MethodName)) ∈ lw_all := lw_g (lw_at lw_m4 173 rfl) rfl
theorem q1009 : (Jvm.Cond.methodLink "java/util/ArrayList" (123 : Nat) ({ cls := "java/util/ArrayList", name := "elementData", desc := "(I)Ljava/lang/Object;" } : Jvm.MethodName)) ∈ lw_all := lw_g (lw_at lw_m4 174 rfl) rfl
theorem q1010 : (Jvm.Cond.instanceMethod ({ cls := "java/util/ArrayList", name := "elementData", desc := "(I)Ljava/lang/Object;" } : Jvm.MethodName)) ∈ lw_all := lw_g (lw_at lw_m4 175 rfl) rfl
theorem q1011 : (Jvm.Cond.selects "java/util/ArrayList" ({ cls := "java/util/ArrayList", name := "elementData", desc := "(I)Ljava/lang/Object;" } : Jvm.MethodName) ({ cls := "java/util/ArrayList", name := "elementData", desc := "(I)Ljava/lang/Object;" } : Jvm.MethodName)) ∈ lw_all := lw_g (lw_at lw_m4 176 rfl) rfl
theorem q1012 : (Jvm.Cond.code ({ cls := "java/util/ArrayList", name := "elementData", desc := "(I)Ljava/lang/Object;" } : Jvm.MethodName) prog_80_method_18_code (2 : Nat) (Option.some (Jvm.ClassFile.FieldType.object "java/lang/Object"))) ∈ lw_all := lw_g (lw_at lw_m4 177 rfl) rfl
theorem q2170 : (Jvm.Cond.code ({ cls := "java/util/ArrayList", name := "iterator", desc := "()Ljava/util/Iterator;" } : Jvm.MethodName) prog_80_method_55_code (1 : Nat) (Option.some (Jvm.ClassFile.FieldType.object "java/util/Iterator"))) ∈ lw_all := lw_g (lw_at lw_m9 135 rfl) rfl
theorem q2171 : (Jvm.Cond.classLink "java/util/ArrayList" (267 : Nat) "java/util/ArrayList$Itr") ∈ lw_all := lw_g (lw_at lw_m9 136 rfl) rfl
theorem q2172 : (Jvm.Cond.instantiable "java/util/ArrayList$Itr" (4 : Nat)) ∈ lw_all := lw_g (lw_at lw_m9 137 rfl) rfl
theorem q2173 : (Jvm.Cond.methodLink "java/util/ArrayList" (269 : Nat) ({ cls := "java/util/ArrayList$Itr", name := "<init>", desc := "(Ljava/util/ArrayList;)V" } : Jvm.MethodName)) ∈ lw_all := lw_g (lw_at lw_m9 138 rfl) rfl
theorem q2174 : (Jvm.Cond.instanceMethod ({ cls := "java/util/ArrayList$Itr", name := "<init>", desc := "(Ljava/util/ArrayList;)V" } : Jvm.MethodName)) ∈ lw_all := lw_g (lw_at lw_m9 139 rfl) rfl
theorem q2175 : (Jvm.Cond.code ({ cls := "java/util/ArrayList$Itr", name := "<init>", desc := "(Ljava/util/ArrayList;)V" } : Jvm.MethodName) prog_81_method_1_code (2 : Nat) (Option.none : Option Jvm.ClassFile.FieldType)) ∈ lw_all := lw_g (lw_at lw_m9 140 rfl) rfl
theorem q2176 : (Jvm.Cond.methodLink "java/util/ArrayList$Itr" (7 : Nat) ({ cls := "java/lang/Object", name := "<init>", desc := "()V" } : Jvm.MethodName)) ∈ lw_all := lw_g (lw_at lw_m9 141 rfl) rfl
theorem q2177 : (Jvm.Cond.fieldLink "java/util/ArrayList$Itr" (25 : Nat) "java/util/ArrayList$Itr" "cursor" "I") ∈ lw_all := lw_g (lw_at lw_m9 142 rfl) rfl
theorem q2178 : (Jvm.Cond.fieldLink "java/util/ArrayList$Itr" (13 : Nat) "java/util/ArrayList$Itr" "lastRet" "I") ∈ lw_all := lw_g (lw_at lw_m9 143 rfl) rfl
theorem q2179 : (Jvm.Cond.fieldLink "java/util/ArrayList$Itr" (22 : Nat) "java/util/ArrayList$Itr" "expectedModCount" "I") ∈ lw_all := lw_g (lw_at lw_m9 144 rfl) rfl
theorem q2180 : (Jvm.Cond.fieldLink "java/util/ArrayList$Itr" (1 : Nat) "java/util/ArrayList$Itr" "this$0" "Ljava/util/ArrayList;") ∈ lw_all := lw_g (lw_at lw_m9 145 rfl) rfl
theorem q2199 : (Jvm.Cond.code ({ cls := "java/util/ArrayList$Itr", name := "hasNext", desc := "()Z" } : Jvm.MethodName) prog_81_method_2_code (1 : Nat) (Option.some Jvm.ClassFile.FieldType.boolean)) ∈ lw_all := lw_g (lw_at lw_m9 164 rfl) rfl
theorem q2208 : (Jvm.Cond.code ({ cls := "java/util/ArrayList$Itr", name := "next", desc := "()Ljava/lang/Object;" } : Jvm.MethodName) prog_81_method_3_code (3 : Nat) (Option.some (Jvm.ClassFile.FieldType.object "java/lang/Object"))) ∈ lw_all := lw_g (lw_at lw_m9 173 rfl) rfl
theorem q2209 : (Jvm.Cond.methodLink "java/util/ArrayList$Itr" (31 : Nat) ({ cls := "java/util/ArrayList$Itr", name := "checkForComodification", desc := "()V" } : Jvm.MethodName)) ∈ lw_all := lw_g (lw_at lw_m9 174 rfl) rfl
theorem q2210 : (Jvm.Cond.instanceMethod ({ cls := "java/util/ArrayList$Itr", name := "checkForComodification", desc := "()V" } : Jvm.MethodName)) ∈ lw_all := lw_g (lw_at lw_m9 175 rfl) rfl
theorem q2211 : (Jvm.Cond.selects "java/util/ArrayList$Itr" ({ cls := "java/util/ArrayList$Itr", name := "checkForComodification", desc := "()V" } : Jvm.MethodName) ({ cls := "java/util/ArrayList$Itr", name := "checkForComodification", desc := "()V" } : Jvm.MethodName)) ∈ lw_all := lw_g (lw_at lw_m9 176 rfl) rfl
theorem q2212 : (Jvm.Cond.code ({ cls := "java/util/ArrayList$Itr", name := "checkForComodification", desc := "()V" } : Jvm.MethodName) prog_81_method_6_code (1 : Nat) (Option.none : Option Jvm.ClassFile.FieldType)) ∈ lw_all := lw_g (lw_at lw_m9 177 rfl) rfl
theorem q2222 : (Jvm.Cond.code ({ cls := "java/util/ArrayList", name := "addAll", desc := "(Ljava/util/Collection;)Z" } : Jvm.MethodName) prog_80_method_41_code (6 : Nat) (Option.some Jvm.ClassFile.FieldType.boolean)) ∈ lw_all := lw_g (lw_at lw_m9 187 rfl) rfl
theorem q2224 : (Jvm.Cond.methodLink "java/util/ArrayList" (42 : Nat) ({ cls := "java/util/Collection", name := "toArray", desc := "()[Ljava/lang/Object;" } : Jvm.MethodName)) ∈ lw_all := lw_g (lw_at lw_m9 189 rfl) rfl
theorem q2228 : (Jvm.Cond.selects "java/util/ArrayList" ({ cls := "java/util/Collection", name := "toArray", desc := "()[Ljava/lang/Object;" } : Jvm.MethodName) ({ cls := "java/util/ArrayList", name := "toArray", desc := "()[Ljava/lang/Object;" } : Jvm.MethodName)) ∈ lw_all := lw_g (lw_at lw_m9 193 rfl) rfl
theorem q2230 : (Jvm.Cond.instanceMethod ({ cls := "java/util/ArrayList", name := "toArray", desc := "()[Ljava/lang/Object;" } : Jvm.MethodName)) ∈ lw_all := lw_g (lw_at lw_m9 195 rfl) rfl
theorem q2232 : (Jvm.Cond.code ({ cls := "java/util/ArrayList", name := "toArray", desc := "()[Ljava/lang/Object;" } : Jvm.MethodName) prog_80_method_16_code (1 : Nat) (Option.some (Jvm.ClassFile.FieldType.array (Jvm.ClassFile.FieldType.object "java/lang/Object")))) ∈ lw_all := lw_g (lw_at lw_m9 197 rfl) rfl
theorem q2233 : (Jvm.Cond.methodLink "java/util/ArrayList" (112 : Nat) ({ cls := "java/lang/System", name := "arraycopy", desc := "(Ljava/lang/Object;ILjava/lang/Object;II)V" } : Jvm.MethodName)) ∈ lw_all := lw_g (lw_at lw_m9 198 rfl) rfl
theorem q2247 : (Jvm.Cond.code ({ cls := "java/util/ArrayList", name := "remove", desc := "(I)Ljava/lang/Object;" } : Jvm.MethodName) prog_80_method_29_code (4 : Nat) (Option.some (Jvm.ClassFile.FieldType.object "java/lang/Object"))) ∈ lw_all := lw_g (lw_at lw_m9 212 rfl) rfl
theorem q2248 : (Jvm.Cond.methodLink "java/util/ArrayList" (144 : Nat) ({ cls := "java/util/ArrayList", name := "fastRemove", desc := "([Ljava/lang/Object;I)V" } : Jvm.MethodName)) ∈ lw_all := lw_g (lw_at lw_m9 213 rfl) rfl
theorem q2250 : (Jvm.Cond.instanceMethod ({ cls := "java/util/ArrayList", name := "fastRemove", desc := "([Ljava/lang/Object;I)V" } : Jvm.MethodName)) ∈ lw_all := lw_g (lw_at lw_m9 215 rfl) rfl
theorem q2251 : (Jvm.Cond.code ({ cls := "java/util/ArrayList", name := "fastRemove", desc := "([Ljava/lang/Object;I)V" } : Jvm.MethodName) prog_80_method_39_code (4 : Nat) (Option.none : Option Jvm.ClassFile.FieldType)) ∈ lw_all := lw_g (lw_at lw_m9 216 rfl) rfl
theorem q3505 : (Jvm.Cond.selects "[Ljava/lang/Object;" ({ cls := "java/lang/Object", name := "getClass", desc := "()Ljava/lang/Class;" } : Jvm.MethodName) ({ cls := "java/lang/Object", name := "getClass", desc := "()Ljava/lang/Class;" } : Jvm.MethodName)) ∈ lw_all := lw_g (lw_at lw_m15 30 rfl) rfl
theorem q3506 : (Jvm.Cond.declares ({ cls := "java/lang/Object", name := "getClass", desc := "()Ljava/lang/Class;" } : Jvm.MethodName)) ∈ lw_tbl := lw_at lw_m15 31 rfl
/-! java/util/AbstractCollection.<init>()V -/
abbrev cJ0_init : ByteArray := prog_77_method_1_code
def yJ0_init : MethodName := ⟨RJ0, "<init>", "()V"⟩
theorem dJ0_init_0 : decode cJ0_init 0 = .ok (.aload_n 0, 1) := by decide +kernel
theorem dJ0_init_1 : decode cJ0_init 1 = .ok (.invokespecial 1, 3) := by decide +kernel
theorem dJ0_init_4 : decode cJ0_init 4 = .ok (.return_, 1) := by decide +kernel
abbrev mJ0_init : sd_Y := (yJ0_init, cJ0_init, 1, none, none)
def fJ0_init (G : sd_G) (a0 : Nat) : sd_M Unit :=
  sd_ret ()
set_option maxHeartbeats 4000000 in
theorem sJ0_init (l : Launch) (G : sd_G) (a0 : Nat) (h : sd_H) (ρ : Unit) (cT : Nat × Nat) (h2 : sd_H) (hf : fJ0_init G a0 h = some (ρ, cT, h2)) : sd_Met mJ0_init ((l, G), (1, 12), [.ref a0], (sd_oV ρ, h2), cT) h := by
  refine sd_entry (plainFor_of_name rfl) rfl (Nat.le_of_ble_eq_true rfl) ?_
  show sd_J mJ0_init ((l, G), (1, 12), [.ref a0], (sd_oV ρ, h2), cT) 0 [(0, .ref a0)] [] h cT
  unfold fJ0_init at hf
  refine sj_aload_n 0 dJ0_init_0 rfl ?_
  refine sj_objInit q223 q188 q189 (Nat.le_of_ble_eq_true rfl) (Nat.le_of_ble_eq_true rfl) dJ0_init_1 ?_
  exact sj_vret (o := sd_oV) hf rfl rfl rfl dJ0_init_4
/-! java/util/AbstractList.<init>()V -/
abbrev cJ1_init : ByteArray := prog_78_method_1_code
def yJ1_init : MethodName := ⟨RJ1, "<init>", "()V"⟩
def dkwJ1_init_0 : List UInt8 := [42, 183, 0, 1, 42, 3, 181, 0, 7, 177]
abbrev dktJ1_init_0 : List UInt8 := dkwJ1_init_0 ++ []
theorem dksJ1_init_0 : cJ1_init.data.toList.drop 0 = dktJ1_init_0 := by decide +kernel
theorem dJ1_init_0 : decode cJ1_init 0 = .ok (.aload_n 0, 1) := dk_42 (dk_at dksJ1_init_0 0 rfl rfl)
theorem dJ1_init_1 : decode cJ1_init 1 = .ok (.invokespecial 1, 3) := dk_183 0 1 (dk_at dksJ1_init_0 1 rfl rfl)
theorem dJ1_init_4 : decode cJ1_init 4 = .ok (.aload_n 0, 1) := dk_42 (dk_at dksJ1_init_0 4 rfl rfl)
theorem dJ1_init_5 : decode cJ1_init 5 = .ok (.iconst 0, 1) := dk_3 (dk_at dksJ1_init_0 5 rfl rfl)
theorem dJ1_init_6 : decode cJ1_init 6 = .ok (.putfield 7, 3) := dk_181 0 7 (dk_at dksJ1_init_0 6 rfl rfl)
theorem dJ1_init_9 : decode cJ1_init 9 = .ok (.return_, 1) := dk_177 (dk_at dksJ1_init_0 9 rfl rfl)
theorem fpJ1_7_41 (n d : String) : sd_Fp ⟨"java/util/AbstractList", n, d⟩ 7 41 0 .int := ⟨(RJ2, TJ2, 3), "java/util/AbstractList", tyJ2, rfl, by decide, rfl, in_J2, Or.inl rfl, tyJ2_ok, nmJ2, rfl, Or.inl ⟨rfl, Or.inl q230⟩⟩
abbrev mJ1_init : sd_Y := (yJ1_init, cJ1_init, 1, none, none)
def fJ1_init (G : sd_G) (a0 : Nat) : sd_M Unit :=
  sd_bnd (fJ0_init G a0) fun _ =>
  sd_bnd (sd_put 41 0 .int a0 (.int 0)) fun _ =>
  sd_ret ()
set_option maxHeartbeats 4000000 in
theorem sJ1_init (l : Launch) (G : sd_G) (a0 : Nat) (h : sd_H) (ρ : Unit) (cT : Nat × Nat) (h2 : sd_H) (hf : fJ1_init G a0 h = some (ρ, cT, h2)) : sd_Met mJ1_init ((l, G), (2, 32), [.ref a0], (sd_oV ρ, h2), cT) h := by
  refine sd_entry (plainFor_of_name rfl) rfl (Nat.le_of_ble_eq_true rfl) ?_
  show sd_J mJ1_init ((l, G), (2, 32), [.ref a0], (sd_oV ρ, h2), cT) 0 [(0, .ref a0)] [] h cT
  unfold fJ1_init at hf
  refine sj_aload_n 0 dJ1_init_0 rfl ?_
  refine sj_cV (rest := []) (fun _ _ _ e => sj_runI (n := 0) (a := a0) (As := []) (rest := []) (sJ0_init l G a0 h _ _ _ e) rfl rfl q220 q221 q119 q222 rfl (by decide +kernel) rfl rfl (fun _ z => by cases z) ⟨Nat.le_of_ble_eq_true rfl, Nat.le_of_ble_eq_true rfl⟩ rfl (Nat.le_of_ble_eq_true rfl) dJ1_init_1) hf (fun h c hf => ?_)
  refine sj_aload_n 0 dJ1_init_4 rfl ?_
  refine sj_iconst (v := 0) dJ1_init_5 (by decide) ?_
  refine sj_put (fpJ1_7_41 _ _) hf dJ1_init_6 (fun h hf => ?_)
  exact sj_vret (o := sd_oV) hf rfl rfl rfl dJ1_init_9
/-! java/util/ArrayList.<init>()V -/
abbrev cJ2_init : ByteArray := prog_80_method_2_code
def yJ2_init : MethodName := ⟨RJ2, "<init>", "()V"⟩
def dkwJ2_init_0 : List UInt8 := [42, 183, 0, 1, 42, 178, 0, 39, 181, 0, 9, 177]
abbrev dktJ2_init_0 : List UInt8 := dkwJ2_init_0 ++ []
theorem dksJ2_init_0 : cJ2_init.data.toList.drop 0 = dktJ2_init_0 := by decide +kernel
theorem dJ2_init_0 : decode cJ2_init 0 = .ok (.aload_n 0, 1) := dk_42 (dk_at dksJ2_init_0 0 rfl rfl)
theorem dJ2_init_1 : decode cJ2_init 1 = .ok (.invokespecial 1, 3) := dk_183 0 1 (dk_at dksJ2_init_0 1 rfl rfl)
theorem dJ2_init_4 : decode cJ2_init 4 = .ok (.aload_n 0, 1) := dk_42 (dk_at dksJ2_init_0 4 rfl rfl)
theorem dJ2_init_5 : decode cJ2_init 5 = .ok (.getstatic 39, 3) := dk_178 0 39 (dk_at dksJ2_init_0 5 rfl rfl)
theorem dJ2_init_8 : decode cJ2_init 8 = .ok (.putfield 9, 3) := dk_181 0 9 (dk_at dksJ2_init_0 8 rfl rfl)
theorem dJ2_init_11 : decode cJ2_init 11 = .ok (.return_, 1) := dk_177 (dk_at dksJ2_init_0 11 rfl rfl)
theorem fpJ2_9_41 (n d : String) : sd_Fp ⟨"java/util/ArrayList", n, d⟩ 9 41 1 (.array (.object "java/lang/Object")) := ⟨(RJ2, TJ2, 3), "java/util/ArrayList", tyJ2, rfl, by decide, rfl, in_J2, Or.inl rfl, tyJ2_ok, nmJ2, rfl, Or.inl ⟨rfl, Or.inl q226⟩⟩
abbrev mJ2_init : sd_Y := (yJ2_init, cJ2_init, 1, none, none)
def fJ2_init (G : sd_G) (a0 : Nat) : sd_M Unit :=
  sd_bnd (fJ1_init G a0) fun _ =>
  sd_bnd (sd_put 41 1 (.array (.object "java/lang/Object")) a0 (.ref (sd_ad G 0))) fun _ =>
  sd_ret ()
set_option maxHeartbeats 4000000 in
theorem sJ2_init (l : Launch) (G : sd_G) (a0 : Nat) (h : sd_H) (ρ : Unit) (cT : Nat × Nat) (h2 : sd_H) (hf : fJ2_init G a0 h = some (ρ, cT, h2)) : sd_Met mJ2_init ((l, G), (3, 52), [.ref a0], (sd_oV ρ, h2), cT) h := by
  refine sd_entry (plainFor_of_name rfl) rfl (Nat.le_of_ble_eq_true rfl) ?_
  show sd_J mJ2_init ((l, G), (3, 52), [.ref a0], (sd_oV ρ, h2), cT) 0 [(0, .ref a0)] [] h cT
  unfold fJ2_init at hf
  refine sj_aload_n 0 dJ2_init_0 rfl ?_
  refine sj_cV (rest := []) (fun _ _ _ e => sj_runI (n := 0) (a := a0) (As := []) (rest := []) (sJ1_init l G a0 h _ _ _ e) rfl rfl q217 q218 q120 q219 rfl (by decide +kernel) rfl rfl (fun _ z => by cases z) ⟨Nat.le_of_ble_eq_true rfl, Nat.le_of_ble_eq_true rfl⟩ rfl (Nat.le_of_ble_eq_true rfl) dJ2_init_1) hf (fun h c hf => ?_)
  refine sj_aload_n 0 dJ2_init_4 rfl ?_
  refine sj_gets (v := .ref (sd_ad G 0)) 0 rfl rfl ⟨Or.inl q224, rfl⟩ dJ2_init_5 ?_
  refine sj_put (fpJ2_9_41 _ _) hf dJ2_init_8 (fun h hf => ?_)
  exact sj_vret (o := sd_oV) hf rfl rfl rfl dJ2_init_11
/-! java/util/Objects.checkIndex(II)I -/
abbrev cJ23_checkIndex : ByteArray := prog_92_method_17_code
def yJ23_checkIndex : MethodName := ⟨RJ23, "checkIndex", "(II)I"⟩
def dkwJ23_checkIndex_0 : List UInt8 := [26, 27, 1, 184, 0, 105, 172]
abbrev dktJ23_checkIndex_0 : List UInt8 := dkwJ23_checkIndex_0 ++ []
theorem dksJ23_checkIndex_0 : cJ23_checkIndex.data.toList.drop 0 = dktJ23_checkIndex_0 := by decide +kernel
theorem dJ23_checkIndex_0 : decode cJ23_checkIndex 0 = .ok (.iload_n 0, 1) := dk_26 (dk_at dksJ23_checkIndex_0 0 rfl rfl)
theorem dJ23_checkIndex_1 : decode cJ23_checkIndex 1 = .ok (.iload_n 1, 1) := dk_27 (dk_at dksJ23_checkIndex_0 1 rfl rfl)
theorem dJ23_checkIndex_2 : decode cJ23_checkIndex 2 = .ok (.aconst_null, 1) := dk_1 (dk_at dksJ23_checkIndex_0 2 rfl rfl)
theorem dJ23_checkIndex_3 : decode cJ23_checkIndex 3 = .ok (.invokestatic 105, 3) := dk_184 0 105 (dk_at dksJ23_checkIndex_0 3 rfl rfl)
theorem dJ23_checkIndex_6 : decode cJ23_checkIndex 6 = .ok (.ireturn, 1) := dk_172 (dk_at dksJ23_checkIndex_0 6 rfl rfl)
abbrev mJ23_checkIndex : sd_Y := (yJ23_checkIndex, cJ23_checkIndex, 2, some (.int), none)
def fJ23_checkIndex (G : sd_G) (a1 : Int32) (a2 : Int32) : sd_M Int32 :=
  sd_bnd (fJ17_checkIndex G a1 a2 none) fun r1 =>
  sd_ret r1
set_option maxHeartbeats 4000000 in
theorem sJ23_checkIndex (l : Launch) (G : sd_G) (a1 : Int32) (a2 : Int32) (h : sd_H) (ρ : Int32) (cT : Nat × Nat) (h2 : sd_H) (hf : fJ23_checkIndex G a1 a2 h = some (ρ, cT, h2)) : sd_Met mJ23_checkIndex ((l, G), (1, 22), [.int a1, .int a2], (sd_oI ρ, h2), cT) h := by
  refine sd_entry (plainFor_of_name rfl) rfl (Nat.le_of_ble_eq_true rfl) ?_
  show sd_J mJ23_checkIndex ((l, G), (1, 22), [.int a1, .int a2], (sd_oI ρ, h2), cT) 0 [(0, .int a1), (1, .int a2)] [] h cT
  unfold fJ23_checkIndex at hf
  refine sj_iload_n 0 dJ23_checkIndex_0 rfl ?_
  refine sj_iload_n 1 dJ23_checkIndex_1 rfl ?_
  refine sj_null dJ23_checkIndex_2 ?_
  refine sj_cI (rest := []) (fun _ _ _ e => sj_runS (n := 3) (rest := []) (sJ17_checkIndex l G a1 a2 none h _ _ _ e) rfl rfl q1008 q637 q144 q638 (by decide +kernel) rfl ⟨Nat.le_of_ble_eq_true rfl, Nat.le_of_ble_eq_true rfl⟩ rfl (Nat.le_of_ble_eq_true rfl) dJ23_checkIndex_3) hf (fun r1 h c hf => ?_)
  exact sj_iret (o := sd_oI) hf rfl rfl rfl dJ23_checkIndex_6
/-! java/util/ArrayList.elementData(I)Ljava/lang/Object; -/
abbrev cJ2_elementData : ByteArray := prog_80_method_18_code
def yJ2_elementData : MethodName := ⟨RJ2, "elementData", "(I)Ljava/lang/Object;"⟩
def dkwJ2_elementData_0 : List UInt8 := [42, 180, 0, 9, 27, 50, 176]
abbrev dktJ2_elementData_0 : List UInt8 := dkwJ2_elementData_0 ++ []
theorem dksJ2_elementData_0 : cJ2_elementData.data.toList.drop 0 = dktJ2_elementData_0 := by decide +kernel
theorem dJ2_elementData_0 : decode cJ2_elementData 0 = .ok (.aload_n 0, 1) := dk_42 (dk_at dksJ2_elementData_0 0 rfl rfl)
theorem dJ2_elementData_1 : decode cJ2_elementData 1 = .ok (.getfield 9, 3) := dk_180 0 9 (dk_at dksJ2_elementData_0 1 rfl rfl)
theorem dJ2_elementData_4 : decode cJ2_elementData 4 = .ok (.iload_n 1, 1) := dk_27 (dk_at dksJ2_elementData_0 4 rfl rfl)
theorem dJ2_elementData_5 : decode cJ2_elementData 5 = .ok (.aaload, 1) := dk_50 (dk_at dksJ2_elementData_0 5 rfl rfl)
theorem dJ2_elementData_6 : decode cJ2_elementData 6 = .ok (.areturn, 1) := dk_176 (dk_at dksJ2_elementData_0 6 rfl rfl)
theorem fdJ2_9_41 : sd_Fd "java/util/ArrayList" 9 41 1 := ⟨(RJ2, TJ2, 3), "java/util/ArrayList", rfl, by decide, rfl, in_J2, Or.inl rfl, Or.inl q226⟩
abbrev mJ2_elementData : sd_Y := (yJ2_elementData, cJ2_elementData, 2, some (.object "java/lang/Object"), none)
def fJ2_elementData (G : sd_G) (a0 : Nat) (a1 : Int32) : sd_M Nat :=
  sd_bnd (sd_getR G 41 1 a0) fun v1 =>
  sd_bnd (sd_aldR G 4 v1 a1) fun v2 =>
  sd_ret v2
set_option maxHeartbeats 4000000 in
theorem sJ2_elementData (l : Launch) (G : sd_G) (a0 : Nat) (a1 : Int32) (h : sd_H) (ρ : Nat) (cT : Nat × Nat) (h2 : sd_H) (hf : fJ2_elementData G a0 a1 h = some (ρ, cT, h2)) : sd_Met mJ2_elementData ((l, G), (0, 0), [.ref a0, .int a1], (sd_oR ρ, h2), cT) h := by
  refine sd_entry (plainFor_of_name rfl) rfl (Nat.le_of_ble_eq_true rfl) ?_
  show sd_J mJ2_elementData ((l, G), (0, 0), [.ref a0, .int a1], (sd_oR ρ, h2), cT) 0 [(0, .ref a0), (1, .int a1)] [] h cT
  unfold fJ2_elementData at hf
  refine sj_aload_n 0 dJ2_elementData_0 rfl ?_
  refine sj_getR fdJ2_9_41 hf dJ2_elementData_1 (fun v1 hf => ?_)
  refine sj_iload_n 1 dJ2_elementData_4 rfl ?_
  refine sj_aald rfl rfl hf dJ2_elementData_5 (fun v2 hf => ?_)
  exact sj_aret (o := sd_oR) hf rfl rfl rfl (Or.inl ⟨_, rfl⟩) dJ2_elementData_6
/-! java/util/ArrayList.get(I)Ljava/lang/Object; -/
abbrev cJ2_get : ByteArray := prog_80_method_20_code
def yJ2_get : MethodName := ⟨RJ2, "get", "(I)Ljava/lang/Object;"⟩
def dkwJ2_get_0 : List UInt8 := [27, 42, 180, 0, 48, 184, 0, 118, 87, 42, 27, 182, 0, 123, 176]
abbrev dktJ2_get_0 : List UInt8 := dkwJ2_get_0 ++ []
theorem dksJ2_get_0 : cJ2_get.data.toList.drop 0 = dktJ2_get_0 := by decide +kernel
theorem dJ2_get_0 : decode cJ2_get 0 = .ok (.iload_n 1, 1) := dk_27 (dk_at dksJ2_get_0 0 rfl rfl)
theorem dJ2_get_1 : decode cJ2_get 1 = .ok (.aload_n 0, 1) := dk_42 (dk_at dksJ2_get_0 1 rfl rfl)
theorem dJ2_get_2 : decode cJ2_get 2 = .ok (.getfield 48, 3) := dk_180 0 48 (dk_at dksJ2_get_0 2 rfl rfl)
theorem dJ2_get_5 : decode cJ2_get 5 = .ok (.invokestatic 118, 3) := dk_184 0 118 (dk_at dksJ2_get_0 5 rfl rfl)
theorem dJ2_get_8 : decode cJ2_get 8 = .ok (.pop, 1) := dk_87 (dk_at dksJ2_get_0 8 rfl rfl)
theorem dJ2_get_9 : decode cJ2_get 9 = .ok (.aload_n 0, 1) := dk_42 (dk_at dksJ2_get_0 9 rfl rfl)
theorem dJ2_get_10 : decode cJ2_get 10 = .ok (.iload_n 1, 1) := dk_27 (dk_at dksJ2_get_0 10 rfl rfl)
theorem dJ2_get_11 : decode cJ2_get 11 = .ok (.invokevirtual 123, 3) := dk_182 0 123 (dk_at dksJ2_get_0 11 rfl rfl)
theorem dJ2_get_14 : decode cJ2_get 14 = .ok (.areturn, 1) := dk_176 (dk_at dksJ2_get_0 14 rfl rfl)
theorem fdJ2_48_41 : sd_Fd "java/util/ArrayList" 48 41 2 := ⟨(RJ2, TJ2, 3), "java/util/ArrayList", rfl, by decide, rfl, in_J2, Or.inl rfl, Or.inl q229⟩
abbrev mJ2_get : sd_Y := (yJ2_get, cJ2_get, 2, some (.object "java/lang/Object"), none)
def fJ2_get (G : sd_G) (a0 : Nat) (a1 : Int32) : sd_M Nat :=
  sd_bnd (sd_getI G 41 2 a0) fun v1 =>
  sd_bnd (fJ23_checkIndex G a1 v1) fun r2 =>
  sd_bnd (sd_isC G 41 a0) fun _ =>
  sd_bnd (fJ2_elementData G a0 a1) fun r3 =>
  sd_ret r3
set_option maxHeartbeats 4000000 in
theorem sJ2_get (l : Launch) (G : sd_G) (a0 : Nat) (a1 : Int32) (h : sd_H) (ρ : Nat) (cT : Nat × Nat) (h2 : sd_H) (hf : fJ2_get G a0 a1 h = some (ρ, cT, h2)) : sd_Met mJ2_get ((l, G), (2, 43), [.ref a0, .int a1], (sd_oR ρ, h2), cT) h := by
  refine sd_entry (plainFor_of_name rfl) rfl (Nat.le_of_ble_eq_true rfl) ?_
  show sd_J mJ2_get ((l, G), (2, 43), [.ref a0, .int a1], (sd_oR ρ, h2), cT) 0 [(0, .ref a0), (1, .int a1)] [] h cT
  unfold fJ2_get at hf
  refine sj_iload_n 1 dJ2_get_0 rfl ?_
  refine sj_aload_n 0 dJ2_get_1 rfl ?_
  refine sj_getI fdJ2_48_41 hf dJ2_get_2 (fun v1 hf => ?_)
  refine sj_cI (rest := []) (fun _ _ _ e => sj_runS (n := 2) (rest := []) (sJ23_checkIndex l G a1 v1 h _ _ _ e) rfl rfl q1005 q1006 q150 q1007 (by decide +kernel) rfl ⟨Nat.le_of_ble_eq_true rfl, Nat.le_of_ble_eq_true rfl⟩ rfl (Nat.le_of_ble_eq_true rfl) dJ2_get_5) hf (fun r2 h c hf => ?_)
  refine sj_pop dJ2_get_8 rfl ?_
  refine sj_aload_n 0 dJ2_get_9 rfl ?_
  refine sj_iload_n 1 dJ2_get_10 rfl ?_
  obtain ⟨fs11, he11, hf⟩ := sd_isC_some hf
  refine sj_cR (rest := []) (fun _ _ _ e => sj_runV (n := 1) (As := [.int a1]) (rest := []) (sJ2_elementData l G a0 a1 h _ _ _ e) he11 rfl rfl rfl rfl q1009 q1010 q1011 q121 q1012 (by decide +kernel) rfl rfl ⟨Nat.le_of_ble_eq_true rfl, Nat.le_of_ble_eq_true rfl⟩ rfl (Nat.le_of_ble_eq_true rfl) dJ2_get_11) hf (fun r3 h c hf => ?_)
  exact sj_aret (o := sd_oR) hf rfl rfl rfl (Or.inl ⟨_, rfl⟩) dJ2_get_14
/-! java/util/ArrayList.size()I -/
abbrev cJ2_size : ByteArray := prog_80_method_8_code
def yJ2_size : MethodName := ⟨RJ2, "size", "()I"⟩
theorem dJ2_size_0 : decode cJ2_size 0 = .ok (.aload_n 0, 1) := by decide +kernel
theorem dJ2_size_1 : decode cJ2_size 1 = .ok (.getfield 48, 3) := by decide +kernel
theorem dJ2_size_4 : decode cJ2_size 4 = .ok (.ireturn, 1) := by decide +kernel
abbrev mJ2_size : sd_Y := (yJ2_size, cJ2_size, 1, some (.int), none)
def fJ2_size (G : sd_G) (a0 : Nat) : sd_M Int32 :=
  sd_bnd (sd_getI G 41 2 a0) fun v1 =>
  sd_ret v1
set_option maxHeartbeats 4000000 in
theorem sJ2_size (l : Launch) (G : sd_G) (a0 : Nat) (h : sd_H) (ρ : Int32) (cT : Nat × Nat) (h2 : sd_H) (hf : fJ2_size G a0 h = some (ρ, cT, h2)) : sd_Met mJ2_size ((l, G), (0, 0), [.ref a0], (sd_oI ρ, h2), cT) h := by
  refine sd_entry (plainFor_of_name rfl) rfl (Nat.le_of_ble_eq_true rfl) ?_
  show sd_J mJ2_size ((l, G), (0, 0), [.ref a0], (sd_oI ρ, h2), cT) 0 [(0, .ref a0)] [] h cT
  unfold fJ2_size at hf
  refine sj_aload_n 0 dJ2_size_0 rfl ?_
  refine sj_getI fdJ2_48_41 hf dJ2_size_1 (fun v1 hf => ?_)
  exact sj_iret (o := sd_oI) hf rfl rfl rfl dJ2_size_4
/-! jdk/internal/util/ArraysSupport.newLength(III)I -/
abbrev cJ3_newLength : ByteArray := prog_98_method_27_code
def yJ3_newLength : MethodName := ⟨RJ3, "newLength", "(III)I"⟩
def dkwJ3_newLength_1 : List UInt8 := [184, 0, 201, 172]
abbrev dktJ3_newLength_1 : List UInt8 := dkwJ3_newLength_1 ++ []
def dkwJ3_newLength_0 : List UInt8 := [26, 27, 28, 184, 0, 194, 96, 62, 3, 29, 162, 0, 11, 29, 18, 200, 163, 0, 5, 29, 172, 26, 27]
abbrev dktJ3_newLength_0 : List UInt8 := dkwJ3_newLength_0 ++ dktJ3_newLength_1
theorem dksJ3_newLength_0 : cJ3_newLength.data.toList.drop 0 = dktJ3_newLength_0 := by decide +kernel
theorem dksJ3_newLength_1 : cJ3_newLength.data.toList.drop 23 = dktJ3_newLength_1 := dk_seg dksJ3_newLength_0 23 rfl rfl
theorem dJ3_newLength_0 : decode cJ3_newLength 0 = .ok (.iload_n 0, 1) := dk_26 (dk_at dksJ3_newLength_0 0 rfl rfl)
theorem dJ3_newLength_1 : decode cJ3_newLength 1 = .ok (.iload_n 1, 1) := dk_27 (dk_at dksJ3_newLength_0 1 rfl rfl)
theorem dJ3_newLength_2 : decode cJ3_newLength 2 = .ok (.iload_n 2, 1) := dk_28 (dk_at dksJ3_newLength_0 2 rfl rfl)
theorem dJ3_newLength_3 : decode cJ3_newLength 3 = .ok (.invokestatic 194, 3) := dk_184 0 194 (dk_at dksJ3_newLength_0 3 rfl rfl)
theorem dJ3_newLength_6 : decode cJ3_newLength 6 = .ok (.iadd, 1) := dk_96 (dk_at dksJ3_newLength_0 6 rfl rfl)
theorem dJ3_newLength_7 : decode cJ3_newLength 7 = .ok (.istore_n 3, 1) := dk_62 (dk_at dksJ3_newLength_0 7 rfl rfl)
theorem dJ3_newLength_8 : decode cJ3_newLength 8 = .ok (.iconst 0, 1) := dk_3 (dk_at dksJ3_newLength_0 8 rfl rfl)
theorem dJ3_newLength_9 : decode cJ3_newLength 9 = .ok (.iload_n 3, 1) := dk_29 (dk_at dksJ3_newLength_0 9 rfl rfl)
theorem dJ3_newLength_10 : decode cJ3_newLength 10 = .ok (.if_icmp .ge 11, 3) := dk_162 0 11 (dk_at dksJ3_newLength_0 10 rfl rfl)
theorem dJ3_newLength_13 : decode cJ3_newLength 13 = .ok (.iload_n 3, 1) := dk_29 (dk_at dksJ3_newLength_0 13 rfl rfl)
theorem dJ3_newLength_14 : decode cJ3_newLength 14 = .ok (.ldc 200, 2) := dk_18 200 (dk_at dksJ3_newLength_0 14 rfl rfl)
theorem dJ3_newLength_16 : decode cJ3_newLength 16 = .ok (.if_icmp .gt 5, 3) := dk_163 0 5 (dk_at dksJ3_newLength_0 16 rfl rfl)
theorem dJ3_newLength_19 : decode cJ3_newLength 19 = .ok (.iload_n 3, 1) := dk_29 (dk_at dksJ3_newLength_0 19 rfl rfl)
theorem dJ3_newLength_20 : decode cJ3_newLength 20 = .ok (.ireturn, 1) := dk_172 (dk_at dksJ3_newLength_0 20 rfl rfl)
theorem dJ3_newLength_21 : decode cJ3_newLength 21 = .ok (.iload_n 0, 1) := dk_26 (dk_at dksJ3_newLength_0 21 rfl rfl)
theorem dJ3_newLength_22 : decode cJ3_newLength 22 = .ok (.iload_n 1, 1) := dk_27 (dk_at dksJ3_newLength_0 22 rfl rfl)
theorem dJ3_newLength_23 : decode cJ3_newLength 23 = .ok (.invokestatic 201, 3) := dk_184 0 201 (dk_at dksJ3_newLength_1 0 rfl rfl)
theorem dJ3_newLength_26 : decode cJ3_newLength 26 = .ok (.ireturn, 1) := dk_172 (dk_at dksJ3_newLength_1 3 rfl rfl)
abbrev mJ3_newLength : sd_Y := (yJ3_newLength, cJ3_newLength, 4, some (.int), none)
def fJ3_newLength (G : sd_G) (a1 : Int32) (a2 : Int32) (a3 : Int32) : sd_M Int32 :=
  sd_bnd (fJ4_max G a2 a3) fun r1 =>
  sd_bnd (sd_ret (a1 + r1)) fun x2 =>
  if x2 ≤ (0 : Int32) then (
    sd_fail)
  else (
    if 2147483639 < x2 then (
      sd_fail)
    else (
      sd_ret x2))
set_option maxHeartbeats 4000000 in
theorem sJ3_newLength (l : Launch) (G : sd_G) (a1 : Int32) (a2 : Int32) (a3 : Int32) (h : sd_H) (ρ : Int32) (cT : Nat × Nat) (h2 : sd_H) (hf : fJ3_newLength G a1 a2 a3 h = some (ρ, cT, h2)) : sd_Met mJ3_newLength ((l, G), (1, 21), [.int a1, .int a2, .int a3], (sd_oI ρ, h2), cT) h := by
  refine sd_entry (plainFor_of_name rfl) rfl (Nat.le_of_ble_eq_true rfl) ?_
  show sd_J mJ3_newLength ((l, G), (1, 21), [.int a1, .int a2, .int a3], (sd_oI ρ, h2), cT) 0 [(0, .int a1), (1, .int a2), (2, .int a3)] [] h cT
  unfold fJ3_newLength at hf
  refine sj_iload_n 0 dJ3_newLength_0 rfl ?_
  refine sj_iload_n 1 dJ3_newLength_1 rfl ?_
  refine sj_iload_n 2 dJ3_newLength_2 rfl ?_
  refine sj_cI (rest := [.int a1]) (fun _ _ _ e => sj_runS (n := 2) (rest := [.int a1]) (sJ4_max l G a2 a3 h _ _ _ e) rfl rfl q356 q357 q124 q358 (by decide +kernel) rfl ⟨Nat.le_of_ble_eq_true rfl, Nat.le_of_ble_eq_true rfl⟩ rfl (Nat.le_of_ble_eq_true rfl) dJ3_newLength_3) hf (fun r1 h c hf => ?_)
  refine sj_iadd dJ3_newLength_6 ?_
  refine sj_nameI hf (fun x2 hf => ?_)
  refine sj_istore_n [(3, .int x2), (0, .int a1), (1, .int a2), (2, .int a3)] dJ3_newLength_7 (by decide) rfl ?_
  refine sj_iconst (v := 0) dJ3_newLength_8 (by decide) ?_
  refine sj_iload_n 0 dJ3_newLength_9 rfl ?_
  refine sj_icge 21 hf dJ3_newLength_10 (by decide) (fun g10 hf => ?_) (fun g10 hf => ?_)
  · cases hf
  · refine sj_iload_n 0 dJ3_newLength_13 rfl ?_
    refine sj_ldc q359 dJ3_newLength_14 ?_
    refine sj_icgt 21 hf dJ3_newLength_16 (by decide) (fun g16 hf => ?_) (fun g16 hf => ?_)
    · cases hf
    · refine sj_iload_n 0 dJ3_newLength_19 rfl ?_
      exact sj_iret (o := sd_oI) hf rfl rfl rfl dJ3_newLength_20
/-! java/util/Arrays.copyOf([Ljava/lang/Object;ILjava/lang/Class;)[Ljava/lang/Object; -/
abbrev cJ5_copyOf_2 : ByteArray := prog_82_method_120_code
def yJ5_copyOf_2 : MethodName := ⟨RJ5, "copyOf", "([Ljava/lang/Object;ILjava/lang/Class;)[Ljava/lang/Object;"⟩
def dkwJ5_copyOf_2_1 : List UInt8 := [78, 42, 3, 45, 3, 42, 190, 27, 184, 1, 48, 184, 0, 150, 45, 176]
abbrev dktJ5_copyOf_2_1 : List UInt8 := dkwJ5_copyOf_2_1 ++ []
def dkwJ5_copyOf_2_0 : List UInt8 := [44, 18, 110, 166, 0, 10, 27, 189, 0, 2, 167, 0, 14, 44, 182, 0, 90, 27, 184, 0, 95, 192, 0, 110]
abbrev dktJ5_copyOf_2_0 : List UInt8 := dkwJ5_copyOf_2_0 ++ dktJ5_copyOf_2_1
theorem dksJ5_copyOf_2_0 : cJ5_copyOf_2.data.toList.drop 0 = dktJ5_copyOf_2_0 := by decide +kernel
theorem dksJ5_copyOf_2_1 : cJ5_copyOf_2.data.toList.drop 24 = dktJ5_copyOf_2_1 := dk_seg dksJ5_copyOf_2_0 24 rfl rfl
theorem dJ5_copyOf_2_0 : decode cJ5_copyOf_2 0 = .ok (.aload_n 2, 1) := dk_44 (dk_at dksJ5_copyOf_2_0 0 rfl rfl)
theorem dJ5_copyOf_2_1 : decode cJ5_copyOf_2 1 = .ok (.ldc 110, 2) := dk_18 110 (dk_at dksJ5_copyOf_2_0 1 rfl rfl)
theorem dJ5_copyOf_2_3 : decode cJ5_copyOf_2 3 = .ok (.if_acmp .ne 10, 3) := dk_166 0 10 (dk_at dksJ5_copyOf_2_0 3 rfl rfl)
theorem dJ5_copyOf_2_6 : decode cJ5_copyOf_2 6 = .ok (.iload_n 1, 1) := dk_27 (dk_at dksJ5_copyOf_2_0 6 rfl rfl)
theorem dJ5_copyOf_2_7 : decode cJ5_copyOf_2 7 = .ok (.anewarray 2, 3) := dk_189 0 2 (dk_at dksJ5_copyOf_2_0 7 rfl rfl)
theorem dJ5_copyOf_2_10 : decode cJ5_copyOf_2 10 = .ok (.goto 14, 3) := dk_167 0 14 (dk_at dksJ5_copyOf_2_0 10 rfl rfl)
theorem dJ5_copyOf_2_13 : decode cJ5_copyOf_2 13 = .ok (.aload_n 2, 1) := dk_44 (dk_at dksJ5_copyOf_2_0 13 rfl rfl)
theorem dJ5_copyOf_2_14 : decode cJ5_copyOf_2 14 = .ok (.invokevirtual 90, 3) := dk_182 0 90 (dk_at dksJ5_copyOf_2_0 14 rfl rfl)
theorem dJ5_copyOf_2_17 : decode cJ5_copyOf_2 17 = .ok (.iload_n 1, 1) := dk_27 (dk_at dksJ5_copyOf_2_0 17 rfl rfl)
theorem dJ5_copyOf_2_18 : decode cJ5_copyOf_2 18 = .ok (.invokestatic 95, 3) := dk_184 0 95 (dk_at dksJ5_copyOf_2_0 18 rfl rfl)
theorem dJ5_copyOf_2_21 : decode cJ5_copyOf_2 21 = .ok (.checkcast 110, 3) := dk_192 0 110 (dk_at dksJ5_copyOf_2_0 21 rfl rfl)
theorem dJ5_copyOf_2_24 : decode cJ5_copyOf_2 24 = .ok (.astore_n 3, 1) := dk_78 (dk_at dksJ5_copyOf_2_1 0 rfl rfl)
theorem dJ5_copyOf_2_25 : decode cJ5_copyOf_2 25 = .ok (.aload_n 0, 1) := dk_42 (dk_at dksJ5_copyOf_2_1 1 rfl rfl)
theorem dJ5_copyOf_2_26 : decode cJ5_copyOf_2 26 = .ok (.iconst 0, 1) := dk_3 (dk_at dksJ5_copyOf_2_1 2 rfl rfl)
theorem dJ5_copyOf_2_27 : decode cJ5_copyOf_2 27 = .ok (.aload_n 3, 1) := dk_45 (dk_at dksJ5_copyOf_2_1 3 rfl rfl)
theorem dJ5_copyOf_2_28 : decode cJ5_copyOf_2 28 = .ok (.iconst 0, 1) := dk_3 (dk_at dksJ5_copyOf_2_1 4 rfl rfl)
theorem dJ5_copyOf_2_29 : decode cJ5_copyOf_2 29 = .ok (.aload_n 0, 1) := dk_42 (dk_at dksJ5_copyOf_2_1 5 rfl rfl)
theorem dJ5_copyOf_2_30 : decode cJ5_copyOf_2 30 = .ok (.arraylength, 1) := dk_190 (dk_at dksJ5_copyOf_2_1 6 rfl rfl)
theorem dJ5_copyOf_2_31 : decode cJ5_copyOf_2 31 = .ok (.iload_n 1, 1) := dk_27 (dk_at dksJ5_copyOf_2_1 7 rfl rfl)
theorem dJ5_copyOf_2_32 : decode cJ5_copyOf_2 32 = .ok (.invokestatic 304, 3) := dk_184 1 48 (dk_at dksJ5_copyOf_2_1 8 rfl rfl)
theorem dJ5_copyOf_2_35 : decode cJ5_copyOf_2 35 = .ok (.invokestatic 150, 3) := dk_184 0 150 (dk_at dksJ5_copyOf_2_1 11 rfl rfl)
theorem dJ5_copyOf_2_38 : decode cJ5_copyOf_2 38 = .ok (.aload_n 3, 1) := dk_45 (dk_at dksJ5_copyOf_2_1 14 rfl rfl)
theorem dJ5_copyOf_2_39 : decode cJ5_copyOf_2 39 = .ok (.areturn, 1) := dk_176 (dk_at dksJ5_copyOf_2_1 15 rfl rfl)
abbrev mJ5_copyOf_2 : sd_Y := (yJ5_copyOf_2, cJ5_copyOf_2, 4, some ((.array (.object "java/lang/Object"))), none)
def fJ5_copyOf_2 (G : sd_G) (a1 : Nat) (a2 : Int32) (a3 : Nat) : sd_M Nat :=
  if a3 = (sd_ad G 99) then (
    sd_bnd (sd_newQ 4 a2) fun o1 =>
    sd_bnd (sd_alen G a1) fun v2 =>
    sd_bnd (fJ4_min G v2 a2) fun r3 =>
    sd_bnd (sd_cpQ G 4 a1 0 o1 0 r3) fun _ =>
    sd_ret o1)
  else (
    sd_fail)
set_option maxHeartbeats 4000000 in
theorem sJ5_copyOf_2 (l : Launch) (G : sd_G) (a1 : Nat) (a2 : Int32) (a3 : Nat) (h : sd_H) (ρ : Nat) (cT : Nat × Nat) (h2 : sd_H) (hf : fJ5_copyOf_2 G a1 a2 a3 h = some (ρ, cT, h2)) : sd_Met mJ5_copyOf_2 ((l, G), (1, 21), [.ref a1, .int a2, .ref a3], (sd_oR ρ, h2), cT) h := by
  refine sd_entry (plainFor_of_name rfl) rfl (Nat.le_of_ble_eq_true rfl) ?_
  show sd_J mJ5_copyOf_2 ((l, G), (1, 21), [.ref a1, .int a2, .ref a3], (sd_oR ρ, h2), cT) 0 [(0, .ref a1), (1, .int a2), (2, .ref a3)] [] h cT
  unfold fJ5_copyOf_2 at hf
  refine sj_aload_n 2 dJ5_copyOf_2_0 rfl ?_
  refine sj_ldcM 0 rfl q428 dJ5_copyOf_2_1 ?_
  refine sj_acneR 13 hf dJ5_copyOf_2_3 (by decide) (fun g3 hf => ?_) (fun g3 hf => ?_)
  · cases hf
  · refine sj_iload_n 1 dJ5_copyOf_2_6 rfl ?_
    refine sj_newQ (E := "java/lang/Object") rfl (by decide) q430 hf dJ5_copyOf_2_7 (fun o1 h c hf => ?_)
    refine sj_goto 24 dJ5_copyOf_2_10 (by decide) ?_
    refine sj_astore_n [(3, .ref o1), (0, .ref a1), (1, .int a2), (2, .ref a3)] dJ5_copyOf_2_24 (by decide) rfl ?_
    refine sj_aload_n 1 dJ5_copyOf_2_25 rfl ?_
    refine sj_iconst (v := 0) dJ5_copyOf_2_26 (by decide) ?_
    refine sj_aload_n 0 dJ5_copyOf_2_27 rfl ?_
    refine sj_iconst (v := 0) dJ5_copyOf_2_28 (by decide) ?_
    refine sj_aload_n 1 dJ5_copyOf_2_29 rfl ?_
    refine sj_alen hf dJ5_copyOf_2_30 (fun v2 hf => ?_)
    refine sj_iload_n 2 dJ5_copyOf_2_31 rfl ?_
    refine sj_cI (rest := [.int 0, .ref o1, .int 0, .ref a1]) (fun _ _ _ e => sj_runS (n := 2) (rest := [.int 0, .ref o1, .int 0, .ref a1]) (sJ4_min l G v2 a2 h _ _ _ e) rfl rfl q431 q432 q124 q433 (by decide +kernel) rfl ⟨Nat.le_of_ble_eq_true rfl, Nat.le_of_ble_eq_true rfl⟩ rfl (Nat.le_of_ble_eq_true rfl) dJ5_copyOf_2_32) hf (fun r3 h c hf => ?_)
    refine sj_cpQ rfl q434 (Nat.le_of_ble_eq_true rfl) (Nat.le_of_ble_eq_true rfl) hf dJ5_copyOf_2_35 (fun h hf => ?_)
    refine sj_aload_n 0 dJ5_copyOf_2_38 rfl ?_
    exact sj_aret (o := sd_oR) hf rfl rfl rfl (Or.inr ⟨_, rfl⟩) dJ5_copyOf_2_39
/-! java/util/Arrays.copyOf([Ljava/lang/Object;I)[Ljava/lang/Object; -/
abbrev cJ5_copyOf : ByteArray := prog_82_method_119_code
def yJ5_copyOf : MethodName := ⟨RJ5, "copyOf", "([Ljava/lang/Object;I)[Ljava/lang/Object;"⟩
def dkwJ5_copyOf_0 : List UInt8 := [42, 27, 42, 182, 0, 86, 184, 1, 44, 176]
abbrev dktJ5_copyOf_0 : List UInt8 := dkwJ5_copyOf_0 ++ []
theorem dksJ5_copyOf_0 : cJ5_copyOf.data.toList.drop 0 = dktJ5_copyOf_0 := by decide +kernel
theorem dJ5_copyOf_0 : decode cJ5_copyOf 0 = .ok (.aload_n 0, 1) := dk_42 (dk_at dksJ5_copyOf_0 0 rfl rfl)
theorem dJ5_copyOf_1 : decode cJ5_copyOf 1 = .ok (.iload_n 1, 1) := dk_27 (dk_at dksJ5_copyOf_0 1 rfl rfl)
theorem dJ5_copyOf_2 : decode cJ5_copyOf 2 = .ok (.aload_n 0, 1) := dk_42 (dk_at dksJ5_copyOf_0 2 rfl rfl)
theorem dJ5_copyOf_3 : decode cJ5_copyOf 3 = .ok (.invokevirtual 86, 3) := dk_182 0 86 (dk_at dksJ5_copyOf_0 3 rfl rfl)
theorem dJ5_copyOf_6 : decode cJ5_copyOf 6 = .ok (.invokestatic 300, 3) := dk_184 1 44 (dk_at dksJ5_copyOf_0 6 rfl rfl)
theorem dJ5_copyOf_9 : decode cJ5_copyOf 9 = .ok (.areturn, 1) := dk_176 (dk_at dksJ5_copyOf_0 9 rfl rfl)
abbrev mJ5_copyOf : sd_Y := (yJ5_copyOf, cJ5_copyOf, 2, some ((.array (.object "java/lang/Object"))), none)
def fJ5_copyOf (G : sd_G) (a1 : Nat) (a2 : Int32) : sd_M Nat :=
  sd_bnd (sd_isO G a1) fun _ =>
  sd_bnd (fJ5_copyOf_2 G a1 a2 (sd_ad G 99)) fun r1 =>
  sd_ret r1
set_option maxHeartbeats 4000000 in
theorem sJ5_copyOf (l : Launch) (G : sd_G) (a1 : Nat) (a2 : Int32) (h : sd_H) (ρ : Nat) (cT : Nat × Nat) (h2 : sd_H) (hf : fJ5_copyOf G a1 a2 h = some (ρ, cT, h2)) : sd_Met mJ5_copyOf ((l, G), (2, 44), [.ref a1, .int a2], (sd_oR ρ, h2), cT) h := by
  refine sd_entry (plainFor_of_name rfl) rfl (Nat.le_of_ble_eq_true rfl) ?_
  show sd_J mJ5_copyOf ((l, G), (2, 44), [.ref a1, .int a2], (sd_oR ρ, h2), cT) 0 [(0, .ref a1), (1, .int a2)] [] h cT
  unfold fJ5_copyOf at hf
  refine sj_aload_n 0 dJ5_copyOf_0 rfl ?_
  refine sj_iload_n 1 dJ5_copyOf_1 rfl ?_
  refine sj_aload_n 0 dJ5_copyOf_2 rfl ?_
  obtain ⟨fs3, he3, hf⟩ := sd_isO_some hf
  refine sj_getC he3 q366 q3506 q3505 q367 q424 (Nat.le_of_ble_eq_true rfl) (Nat.le_of_ble_eq_true rfl) dJ5_copyOf_3 ?_
  refine sj_cR (rest := []) (fun _ _ _ e => sj_runS (n := 3) (rest := []) (sJ5_copyOf_2 l G a1 a2 (sd_ad G 99) h _ _ _ e) rfl rfl q425 q426 q125 q427 (by decide +kernel) rfl ⟨Nat.le_of_ble_eq_true rfl, Nat.le_of_ble_eq_true rfl⟩ rfl (Nat.le_of_ble_eq_true rfl) dJ5_copyOf_6) hf (fun r1 h c hf => ?_)
  exact sj_aret (o := sd_oR) hf rfl rfl rfl (Or.inr ⟨_, rfl⟩) dJ5_copyOf_9
/-! java/util/ArrayList.grow(I)[Ljava/lang/Object; -/
abbrev cJ2_grow_2 : ByteArray := prog_80_method_6_code
def yJ2_grow_2 : MethodName := ⟨RJ2, "grow", "(I)[Ljava/lang/Object;"⟩
def dkwJ2_grow_2_2 : List UInt8 := [27, 184, 0, 79, 189, 0, 7, 90, 181, 0, 9, 176]
abbrev dktJ2_grow_2_2 : List UInt8 := dkwJ2_grow_2_2 ++ []
def dkwJ2_grow_2_1 : List UInt8 := [28, 4, 122, 184, 0, 73, 62, 42, 42, 180, 0, 9, 29, 184, 0, 66, 90, 181, 0, 9, 176, 42, 16, 10]
abbrev dktJ2_grow_2_1 : List UInt8 := dkwJ2_grow_2_1 ++ dktJ2_grow_2_2
def dkwJ2_grow_2_0 : List UInt8 := [42, 180, 0, 9, 190, 61, 28, 157, 0, 13, 42, 180, 0, 9, 178, 0, 39, 165, 0, 28, 28, 27, 28, 100]
abbrev dktJ2_grow_2_0 : List UInt8 := dkwJ2_grow_2_0 ++ dktJ2_grow_2_1
theorem dksJ2_grow_2_0 : cJ2_grow_2.data.toList.drop 0 = dktJ2_grow_2_0 := by decide +kernel
theorem dksJ2_grow_2_1 : cJ2_grow_2.data.toList.drop 24 = dktJ2_grow_2_1 := dk_seg dksJ2_grow_2_0 24 rfl rfl
theorem dksJ2_grow_2_2 : cJ2_grow_2.data.toList.drop 48 = dktJ2_grow_2_2 := dk_seg dksJ2_grow_2_1 24 rfl rfl
theorem dJ2_grow_2_0 : decode cJ2_grow_2 0 = .ok (.aload_n 0, 1) := dk_42 (dk_at dksJ2_grow_2_0 0 rfl rfl)
theorem dJ2_grow_2_1 : decode cJ2_grow_2 1 = .ok (.getfield 9, 3) := dk_180 0 9 (dk_at dksJ2_grow_2_0 1 rfl rfl)
theorem dJ2_grow_2_4 : decode cJ2_grow_2 4 = .ok (.arraylength, 1) := dk_190 (dk_at dksJ2_grow_2_0 4 rfl rfl)
theorem dJ2_grow_2_5 : decode cJ2_grow_2 5 = .ok (.istore_n 2, 1) := dk_61 (dk_at dksJ2_grow_2_0 5 rfl rfl)
theorem dJ2_grow_2_6 : decode cJ2_grow_2 6 = .ok (.iload_n 2, 1) := dk_28 (dk_at dksJ2_grow_2_0 6 rfl rfl)
theorem dJ2_grow_2_7 : decode cJ2_grow_2 7 = .ok (.ifCond .gt 13, 3) := dk_157 0 13 (dk_at dksJ2_grow_2_0 7 rfl rfl)
theorem dJ2_grow_2_10 : decode cJ2_grow_2 10 = .ok (.aload_n 0, 1) := dk_42 (dk_at dksJ2_grow_2_0 10 rfl rfl)
theorem dJ2_grow_2_11 : decode cJ2_grow_2 11 = .ok (.getfield 9, 3) := dk_180 0 9 (dk_at dksJ2_grow_2_0 11 rfl rfl)
theorem dJ2_grow_2_14 : decode cJ2_grow_2 14 = .ok (.getstatic 39, 3) := dk_178 0 39 (dk_at dksJ2_grow_2_0 14 rfl rfl)
theorem dJ2_grow_2_17 : decode cJ2_grow_2 17 = .ok (.if_acmp .eq 28, 3) := dk_165 0 28 (dk_at dksJ2_grow_2_0 17 rfl rfl)
theorem dJ2_grow_2_20 : decode cJ2_grow_2 20 = .ok (.iload_n 2, 1) := dk_28 (dk_at dksJ2_grow_2_0 20 rfl rfl)
theorem dJ2_grow_2_21 : decode cJ2_grow_2 21 = .ok (.iload_n 1, 1) := dk_27 (dk_at dksJ2_grow_2_0 21 rfl rfl)
theorem dJ2_grow_2_22 : decode cJ2_grow_2 22 = .ok (.iload_n 2, 1) := dk_28 (dk_at dksJ2_grow_2_0 22 rfl rfl)
theorem dJ2_grow_2_23 : decode cJ2_grow_2 23 = .ok (.isub, 1) := dk_100 (dk_at dksJ2_grow_2_0 23 rfl rfl)
theorem dJ2_grow_2_24 : decode cJ2_grow_2 24 = .ok (.iload_n 2, 1) := dk_28 (dk_at dksJ2_grow_2_1 0 rfl rfl)
theorem dJ2_grow_2_25 : decode cJ2_grow_2 25 = .ok (.iconst 1, 1) := dk_4 (dk_at dksJ2_grow_2_1 1 rfl rfl)
theorem dJ2_grow_2_26 : decode cJ2_grow_2 26 = .ok (.ishr, 1) := dk_122 (dk_at dksJ2_grow_2_1 2 rfl rfl)
theorem dJ2_grow_2_27 : decode cJ2_grow_2 27 = .ok (.invokestatic 73, 3) := dk_184 0 73 (dk_at dksJ2_grow_2_1 3 rfl rfl)
theorem dJ2_grow_2_30 : decode cJ2_grow_2 30 = .ok (.istore_n 3, 1) := dk_62 (dk_at dksJ2_grow_2_1 6 rfl rfl)
theorem dJ2_grow_2_31 : decode cJ2_grow_2 31 = .ok (.aload_n 0, 1) := dk_42 (dk_at dksJ2_grow_2_1 7 rfl rfl)
theorem dJ2_grow_2_32 : decode cJ2_grow_2 32 = .ok (.aload_n 0, 1) := dk_42 (dk_at dksJ2_grow_2_1 8 rfl rfl)
theorem dJ2_grow_2_33 : decode cJ2_grow_2 33 = .ok (.getfield 9, 3) := dk_180 0 9 (dk_at dksJ2_grow_2_1 9 rfl rfl)
theorem dJ2_grow_2_36 : decode cJ2_grow_2 36 = .ok (.iload_n 3, 1) := dk_29 (dk_at dksJ2_grow_2_1 12 rfl rfl)
theorem dJ2_grow_2_37 : decode cJ2_grow_2 37 = .ok (.invokestatic 66, 3) := dk_184 0 66 (dk_at dksJ2_grow_2_1 13 rfl rfl)
theorem dJ2_grow_2_40 : decode cJ2_grow_2 40 = .ok (.dup_x1, 1) := dk_90 (dk_at dksJ2_grow_2_1 16 rfl rfl)
theorem dJ2_grow_2_41 : decode cJ2_grow_2 41 = .ok (.putfield 9, 3) := dk_181 0 9 (dk_at dksJ2_grow_2_1 17 rfl rfl)
theorem dJ2_grow_2_44 : decode cJ2_grow_2 44 = .ok (.areturn, 1) := dk_176 (dk_at dksJ2_grow_2_1 20 rfl rfl)
theorem dJ2_grow_2_45 : decode cJ2_grow_2 45 = .ok (.aload_n 0, 1) := dk_42 (dk_at dksJ2_grow_2_1 21 rfl rfl)
theorem dJ2_grow_2_46 : decode cJ2_grow_2 46 = .ok (.bipush 10, 2) := dk_16 10 (dk_at dksJ2_grow_2_1 22 rfl rfl)
theorem dJ2_grow_2_48 : decode cJ2_grow_2 48 = .ok (.iload_n 1, 1) := dk_27 (dk_at dksJ2_grow_2_2 0 rfl rfl)
theorem dJ2_grow_2_49 : decode cJ2_grow_2 49 = .ok (.invokestatic 79, 3) := dk_184 0 79 (dk_at dksJ2_grow_2_2 1 rfl rfl)
theorem dJ2_grow_2_52 : decode cJ2_grow_2 52 = .ok (.anewarray 7, 3) := dk_189 0 7 (dk_at dksJ2_grow_2_2 4 rfl rfl)
theorem dJ2_grow_2_55 : decode cJ2_grow_2 55 = .ok (.dup_x1, 1) := dk_90 (dk_at dksJ2_grow_2_2 7 rfl rfl)
theorem dJ2_grow_2_56 : decode cJ2_grow_2 56 = .ok (.putfield 9, 3) := dk_181 0 9 (dk_at dksJ2_grow_2_2 8 rfl rfl)
theorem dJ2_grow_2_59 : decode cJ2_grow_2 59 = .ok (.areturn, 1) := dk_176 (dk_at dksJ2_grow_2_2 11 rfl rfl)
abbrev mJ2_grow_2 : sd_Y := (yJ2_grow_2, cJ2_grow_2, 4, some ((.array (.object "java/lang/Object"))), none)
def fJ2_grow_2_b20 (G : sd_G) (w0 : Nat) (w1 : Int32) (w2 : Int32) : sd_M Nat :=
  sd_bnd (fJ3_newLength G w2 (w1 - w2) (w2 >>> (1 &&& 31))) fun r3 =>
  sd_bnd (sd_getR G 41 1 w0) fun v4 =>
  sd_bnd (fJ5_copyOf G v4 r3) fun r5 =>
  sd_bnd (sd_put 41 1 (.array (.object "java/lang/Object")) w0 (.ref r5)) fun _ =>
  sd_ret r5
set_option maxHeartbeats 4000000 in
theorem sJ2_grow_2_b20 (l : Launch) (G : sd_G) (a0 : Nat) (a1 : Int32) (ρ : Nat) (h2 : sd_H) (cT : Nat × Nat) (w0 : Nat) (w1 : Int32) (w2 : Int32) (h : sd_H) (c : Nat × Nat) (hf : fJ2_grow_2_b20 G w0 w1 w2 h = some (ρ, c, h2)) : sd_J mJ2_grow_2 ((l, G), (3, 65), [.ref a0, .int a1], (sd_oR ρ, h2), cT) 20 [(0, .ref w0), (1, .int w1), (2, .int w2)] [] h c := by
  unfold fJ2_grow_2_b20 at hf
  refine sj_iload_n 2 dJ2_grow_2_20 rfl ?_
  refine sj_iload_n 1 dJ2_grow_2_21 rfl ?_
  refine sj_iload_n 2 dJ2_grow_2_22 rfl ?_
  refine sj_isub dJ2_grow_2_23 ?_
  refine sj_iload_n 2 dJ2_grow_2_24 rfl ?_
  refine sj_iconst (v := 1) dJ2_grow_2_25 (by decide) ?_
  refine sj_ishr dJ2_grow_2_26 ?_
  refine sj_cI (rest := []) (fun _ _ _ e => sj_runS (n := 3) (rest := []) (sJ3_newLength l G w2 (w1 - w2) (w2 >>> (1 &&& 31)) h _ _ _ e) rfl rfl q353 q354 q123 q355 (by decide +kernel) rfl ⟨Nat.le_of_ble_eq_true rfl, Nat.le_of_ble_eq_true rfl⟩ rfl (Nat.le_of_ble_eq_true rfl) dJ2_grow_2_27) hf (fun r3 h c hf => ?_)
  refine sj_istore_n [(3, .int r3), (0, .ref w0), (1, .int w1), (2, .int w2)] dJ2_grow_2_30 (by decide) rfl ?_
  refine sj_aload_n 1 dJ2_grow_2_31 rfl ?_
  refine sj_aload_n 1 dJ2_grow_2_32 rfl ?_
  refine sj_getR fdJ2_9_41 hf dJ2_grow_2_33 (fun v4 hf => ?_)
  refine sj_iload_n 0 dJ2_grow_2_36 rfl ?_
  refine sj_cR (rest := [.ref w0]) (fun _ _ _ e => sj_runS (n := 2) (rest := [.ref w0]) (sJ5_copyOf l G v4 r3 h _ _ _ e) rfl rfl q363 q364 q125 q365 (by decide +kernel) rfl ⟨Nat.le_of_ble_eq_true rfl, Nat.le_of_ble_eq_true rfl⟩ rfl (Nat.le_of_ble_eq_true rfl) dJ2_grow_2_37) hf (fun r5 h c hf => ?_)
  refine sj_dup_x1 dJ2_grow_2_40 rfl rfl ?_
  refine sj_put (fpJ2_9_41 _ _) hf dJ2_grow_2_41 (fun h hf => ?_)
  exact sj_aret (o := sd_oR) hf rfl rfl rfl (Or.inr ⟨_, rfl⟩) dJ2_grow_2_44
def fJ2_grow_2 (G : sd_G) (a0 : Nat) (a1 : Int32) : sd_M Nat :=
  sd_bnd (sd_getR G 41 1 a0) fun v1 =>
  sd_bnd (sd_alen G v1) fun v2 =>
  if 0 < v2 then (
    fJ2_grow_2_b20 G a0 a1 v2)
  else (
    sd_bnd (sd_getR G 41 1 a0) fun v6 =>
    if v6 = (sd_ad G 0) then (
      sd_bnd (fJ4_max G 10 a1) fun r7 =>
      sd_bnd (sd_newQ 4 r7) fun o8 =>
      sd_bnd (sd_put 41 1 (.array (.object "java/lang/Object")) a0 (.ref o8)) fun _ =>
      sd_ret o8)
    else (
      fJ2_grow_2_b20 G a0 a1 v2))
set_option maxHeartbeats 4000000 in
theorem sJ2_grow_2 (l : Launch) (G : sd_G) (a0 : Nat) (a1 : Int32) (h : sd_H) (ρ : Nat) (cT : Nat × Nat) (h2 : sd_H) (hf : fJ2_grow_2 G a0 a1 h = some (ρ, cT, h2)) : sd_Met mJ2_grow_2 ((l, G), (3, 65), [.ref a0, .int a1], (sd_oR ρ, h2), cT) h := by
  refine sd_entry (plainFor_of_name rfl) rfl (Nat.le_of_ble_eq_true rfl) ?_
  show sd_J mJ2_grow_2 ((l, G), (3, 65), [.ref a0, .int a1], (sd_oR ρ, h2), cT) 0 [(0, .ref a0), (1, .int a1)] [] h cT
  unfold fJ2_grow_2 at hf
  refine sj_aload_n 0 dJ2_grow_2_0 rfl ?_
  refine sj_getR fdJ2_9_41 hf dJ2_grow_2_1 (fun v1 hf => ?_)
  refine sj_alen hf dJ2_grow_2_4 (fun v2 hf => ?_)
  refine sj_istore_n [(2, .int v2), (0, .ref a0), (1, .int a1)] dJ2_grow_2_5 (by decide) rfl ?_
  refine sj_iload_n 0 dJ2_grow_2_6 rfl ?_
  refine sj_ifgt 20 hf dJ2_grow_2_7 (by decide) (fun g7 hf => ?_) (fun g7 hf => ?_)
  · exact sj_loc [1, 2, 0] rfl (sJ2_grow_2_b20 l G a0 a1 ρ h2 cT a0 a1 v2 _ _ hf)
  · refine sj_aload_n 1 dJ2_grow_2_10 rfl ?_
    refine sj_getR fdJ2_9_41 hf dJ2_grow_2_11 (fun v6 hf => ?_)
    refine sj_gets (v := .ref (sd_ad G 0)) 0 rfl rfl ⟨Or.inl q224, rfl⟩ dJ2_grow_2_14 ?_
    refine sj_aceqR 45 hf dJ2_grow_2_17 (by decide) (fun g17 hf => ?_) (fun g17 hf => ?_)
    · refine sj_aload_n 1 dJ2_grow_2_45 rfl ?_
      refine sj_bipush (v := 10) dJ2_grow_2_46 (by decide) ?_
      refine sj_iload_n 2 dJ2_grow_2_48 rfl ?_
      refine sj_cI (rest := [.ref a0]) (fun _ _ _ e => sj_runS (n := 2) (rest := [.ref a0]) (sJ4_max l G 10 a1 h _ _ _ e) rfl rfl q437 q357 q124 q358 (by decide +kernel) rfl ⟨Nat.le_of_ble_eq_true rfl, Nat.le_of_ble_eq_true rfl⟩ rfl (Nat.le_of_ble_eq_true rfl) dJ2_grow_2_49) hf (fun r7 h c hf => ?_)
      refine sj_newQ (E := "java/lang/Object") rfl (by decide) q438 hf dJ2_grow_2_52 (fun o8 h c hf => ?_)
      refine sj_dup_x1 dJ2_grow_2_55 rfl rfl ?_
      refine sj_put (fpJ2_9_41 _ _) hf dJ2_grow_2_56 (fun h hf => ?_)
      exact sj_aret (o := sd_oR) hf rfl rfl rfl (Or.inr ⟨_, rfl⟩) dJ2_grow_2_59
    · exact sj_loc [1, 2, 0] rfl (sJ2_grow_2_b20 l G a0 a1 ρ h2 cT a0 a1 v2 _ _ hf)
/-! java/util/ArrayList.grow()[Ljava/lang/Object; -/
abbrev cJ2_grow : ByteArray := prog_80_method_7_code
def yJ2_grow : MethodName := ⟨RJ2, "grow", "()[Ljava/lang/Object;"⟩
def dkwJ2_grow_0 : List UInt8 := [42, 42, 180, 0, 48, 4, 96, 182, 0, 69, 176]
abbrev dktJ2_grow_0 : List UInt8 := dkwJ2_grow_0 ++ []
theorem dksJ2_grow_0 : cJ2_grow.data.toList.drop 0 = dktJ2_grow_0 := by decide +kernel
theorem dJ2_grow_0 : decode cJ2_grow 0 = .ok (.aload_n 0, 1) := dk_42 (dk_at dksJ2_grow_0 0 rfl rfl)
theorem dJ2_grow_1 : decode cJ2_grow 1 = .ok (.aload_n 0, 1) := dk_42 (dk_at dksJ2_grow_0 1 rfl rfl)
theorem dJ2_grow_2 : decode cJ2_grow 2 = .ok (.getfield 48, 3) := dk_180 0 48 (dk_at dksJ2_grow_0 2 rfl rfl)
theorem dJ2_grow_5 : decode cJ2_grow 5 = .ok (.iconst 1, 1) := dk_4 (dk_at dksJ2_grow_0 5 rfl rfl)
theorem dJ2_grow_6 : decode cJ2_grow 6 = .ok (.iadd, 1) := dk_96 (dk_at dksJ2_grow_0 6 rfl rfl)
theorem dJ2_grow_7 : decode cJ2_grow 7 = .ok (.invokevirtual 69, 3) := dk_182 0 69 (dk_at dksJ2_grow_0 7 rfl rfl)
theorem dJ2_grow_10 : decode cJ2_grow 10 = .ok (.areturn, 1) := dk_176 (dk_at dksJ2_grow_0 10 rfl rfl)
abbrev mJ2_grow : sd_Y := (yJ2_grow, cJ2_grow, 1, some ((.array (.object "java/lang/Object"))), none)
def fJ2_grow (G : sd_G) (a0 : Nat) : sd_M Nat :=
  sd_bnd (sd_getI G 41 2 a0) fun v1 =>
  sd_bnd (sd_isC G 41 a0) fun _ =>
  sd_bnd (fJ2_grow_2 G a0 (v1 + 1)) fun r2 =>
  sd_ret r2
set_option maxHeartbeats 4000000 in
theorem sJ2_grow (l : Launch) (G : sd_G) (a0 : Nat) (h : sd_H) (ρ : Nat) (cT : Nat × Nat) (h2 : sd_H) (hf : fJ2_grow G a0 h = some (ρ, cT, h2)) : sd_Met mJ2_grow ((l, G), (4, 88), [.ref a0], (sd_oR ρ, h2), cT) h := by
  refine sd_entry (plainFor_of_name rfl) rfl (Nat.le_of_ble_eq_true rfl) ?_
  show sd_J mJ2_grow ((l, G), (4, 88), [.ref a0], (sd_oR ρ, h2), cT) 0 [(0, .ref a0)] [] h cT
  unfold fJ2_grow at hf
  refine sj_aload_n 0 dJ2_grow_0 rfl ?_
  refine sj_aload_n 0 dJ2_grow_1 rfl ?_
  refine sj_getI fdJ2_48_41 hf dJ2_grow_2 (fun v1 hf => ?_)
  refine sj_iconst (v := 1) dJ2_grow_5 (by decide) ?_
  refine sj_iadd dJ2_grow_6 ?_
  obtain ⟨fs7, he7, hf⟩ := sd_isC_some hf
  refine sj_cR (rest := []) (fun _ _ _ e => sj_runV (n := 1) (As := [.int (v1 + 1)]) (rest := []) (sJ2_grow_2 l G a0 (v1 + 1) h _ _ _ e) he7 rfl rfl rfl rfl q349 q351 qs2 q121 q352 (by decide +kernel) rfl rfl ⟨Nat.le_of_ble_eq_true rfl, Nat.le_of_ble_eq_true rfl⟩ rfl (Nat.le_of_ble_eq_true rfl) dJ2_grow_7) hf (fun r2 h c hf => ?_)
  exact sj_aret (o := sd_oR) hf rfl rfl rfl (Or.inr ⟨_, rfl⟩) dJ2_grow_10
/-! java/util/ArrayList.add(Ljava/lang/Object;[Ljava/lang/Object;I)V -/
abbrev cJ2_add_2 : ByteArray := prog_80_method_24_code
def yJ2_add_2 : MethodName := ⟨RJ2, "add", "(Ljava/lang/Object;[Ljava/lang/Object;I)V"⟩
def dkwJ2_add_2_0 : List UInt8 := [29, 44, 190, 160, 0, 8, 42, 182, 0, 129, 77, 44, 29, 43, 83, 42, 29, 4, 96, 181, 0, 48, 177]
abbrev dktJ2_add_2_0 : List UInt8 := dkwJ2_add_2_0 ++ []
theorem dksJ2_add_2_0 : cJ2_add_2.data.toList.drop 0 = dktJ2_add_2_0 := by decide +kernel
theorem dJ2_add_2_0 : decode cJ2_add_2 0 = .ok (.iload_n 3, 1) := dk_29 (dk_at dksJ2_add_2_0 0 rfl rfl)
theorem dJ2_add_2_1 : decode cJ2_add_2 1 = .ok (.aload_n 2, 1) := dk_44 (dk_at dksJ2_add_2_0 1 rfl rfl)
theorem dJ2_add_2_2 : decode cJ2_add_2 2 = .ok (.arraylength, 1) := dk_190 (dk_at dksJ2_add_2_0 2 rfl rfl)
theorem dJ2_add_2_3 : decode cJ2_add_2 3 = .ok (.if_icmp .ne 8, 3) := dk_160 0 8 (dk_at dksJ2_add_2_0 3 rfl rfl)
theorem dJ2_add_2_6 : decode cJ2_add_2 6 = .ok (.aload_n 0, 1) := dk_42 (dk_at dksJ2_add_2_0 6 rfl rfl)
theorem dJ2_add_2_7 : decode cJ2_add_2 7 = .ok (.invokevirtual 129, 3) := dk_182 0 129 (dk_at dksJ2_add_2_0 7 rfl rfl)
theorem dJ2_add_2_10 : decode cJ2_add_2 10 = .ok (.astore_n 2, 1) := dk_77 (dk_at dksJ2_add_2_0 10 rfl rfl)
theorem dJ2_add_2_11 : decode cJ2_add_2 11 = .ok (.aload_n 2, 1) := dk_44 (dk_at dksJ2_add_2_0 11 rfl rfl)
theorem dJ2_add_2_12 : decode cJ2_add_2 12 = .ok (.iload_n 3, 1) := dk_29 (dk_at dksJ2_add_2_0 12 rfl rfl)
theorem dJ2_add_2_13 : decode cJ2_add_2 13 = .ok (.aload_n 1, 1) := dk_43 (dk_at dksJ2_add_2_0 13 rfl rfl)
theorem dJ2_add_2_14 : decode cJ2_add_2 14 = .ok (.aastore, 1) := dk_83 (dk_at dksJ2_add_2_0 14 rfl rfl)
theorem dJ2_add_2_15 : decode cJ2_add_2 15 = .ok (.aload_n 0, 1) := dk_42 (dk_at dksJ2_add_2_0 15 rfl rfl)
theorem dJ2_add_2_16 : decode cJ2_add_2 16 = .ok (.iload_n 3, 1) := dk_29 (dk_at dksJ2_add_2_0 16 rfl rfl)
theorem dJ2_add_2_17 : decode cJ2_add_2 17 = .ok (.iconst 1, 1) := dk_4 (dk_at dksJ2_add_2_0 17 rfl rfl)
theorem dJ2_add_2_18 : decode cJ2_add_2 18 = .ok (.iadd, 1) := dk_96 (dk_at dksJ2_add_2_0 18 rfl rfl)
theorem dJ2_add_2_19 : decode cJ2_add_2 19 = .ok (.putfield 48, 3) := dk_181 0 48 (dk_at dksJ2_add_2_0 19 rfl rfl)
theorem dJ2_add_2_22 : decode cJ2_add_2 22 = .ok (.return_, 1) := dk_177 (dk_at dksJ2_add_2_0 22 rfl rfl)
theorem fpJ2_48_41 (n d : String) : sd_Fp ⟨"java/util/ArrayList", n, d⟩ 48 41 2 .int := ⟨(RJ2, TJ2, 3), "java/util/ArrayList", tyJ2, rfl, by decide, rfl, in_J2, Or.inl rfl, tyJ2_ok, nmJ2, rfl, Or.inl ⟨rfl, Or.inl q229⟩⟩
abbrev mJ2_add_2 : sd_Y := (yJ2_add_2, cJ2_add_2, 4, none, none)
def fJ2_add_2_b11 (G : sd_G) (w0 : Nat) (w1 : Nat) (w2 : Nat) (w3 : Int32) : sd_M Unit :=
  sd_bnd (sd_astQ G 4 w2 w3 (some w1)) fun _ =>
  sd_bnd (sd_put 41 2 .int w0 (.int (w3 + 1))) fun _ =>
  sd_ret ()
set_option maxHeartbeats 4000000 in
theorem sJ2_add_2_b11 (l : Launch) (G : sd_G) (a0 : Nat) (a1 : Nat) (a2 : Nat) (a3 : Int32) (ρ : Unit) (h2 : sd_H) (cT : Nat × Nat) (w0 : Nat) (w1 : Nat) (w2 : Nat) (w3 : Int32) (h : sd_H) (c : Nat × Nat) (hf : fJ2_add_2_b11 G w0 w1 w2 w3 h = some (ρ, c, h2)) : sd_J mJ2_add_2 ((l, G), (5, 108), [.ref a0, .ref a1, .ref a2, .int a3], (sd_oV ρ, h2), cT) 11 [(0, .ref w0), (1, .ref w1), (2, .ref w2), (3, .int w3)] [] h c := by
  unfold fJ2_add_2_b11 at hf
  refine sj_aload_n 2 dJ2_add_2_11 rfl ?_
  refine sj_iload_n 3 dJ2_add_2_12 rfl ?_
  refine sj_aload_n 1 dJ2_add_2_13 rfl ?_
  refine sj_aast rfl rfl hf dJ2_add_2_14 (fun h hf => ?_)
  refine sj_aload_n 0 dJ2_add_2_15 rfl ?_
  refine sj_iload_n 3 dJ2_add_2_16 rfl ?_
  refine sj_iconst (v := 1) dJ2_add_2_17 (by decide) ?_
  refine sj_iadd dJ2_add_2_18 ?_
  refine sj_put (fpJ2_48_41 _ _) hf dJ2_add_2_19 (fun h hf => ?_)
  exact sj_vret (o := sd_oV) hf rfl rfl rfl dJ2_add_2_22
def fJ2_add_2 (G : sd_G) (a0 : Nat) (a1 : Nat) (a2 : Nat) (a3 : Int32) : sd_M Unit :=
  sd_bnd (sd_alen G a2) fun v1 =>
  if a3 = v1 then (
    sd_bnd (sd_isC G 41 a0) fun _ =>
    sd_bnd (fJ2_grow G a0) fun r2 =>
    fJ2_add_2_b11 G a0 a1 r2 a3)
  else (
    fJ2_add_2_b11 G a0 a1 a2 a3)
set_option maxHeartbeats 4000000 in
theorem sJ2_add_2 (l : Launch) (G : sd_G) (a0 : Nat) (a1 : Nat) (a2 : Nat) (a3 : Int32) (h : sd_H) (ρ : Unit) (cT : Nat × Nat) (h2 : sd_H) (hf : fJ2_add_2 G a0 a1 a2 a3 h = some (ρ, cT, h2)) : sd_Met mJ2_add_2 ((l, G), (5, 108), [.ref a0, .ref a1, .ref a2, .int a3], (sd_oV ρ, h2), cT) h := by
  refine sd_entry (plainFor_of_name rfl) rfl (Nat.le_of_ble_eq_true rfl) ?_
  show sd_J mJ2_add_2 ((l, G), (5, 108), [.ref a0, .ref a1, .ref a2, .int a3], (sd_oV ρ, h2), cT) 0 [(0, .ref a0), (1, .ref a1), (2, .ref a2), (3, .int a3)] [] h cT
  unfold fJ2_add_2 at hf
  refine sj_iload_n 3 dJ2_add_2_0 rfl ?_
  refine sj_aload_n 2 dJ2_add_2_1 rfl ?_
  refine sj_alen hf dJ2_add_2_2 (fun v1 hf => ?_)
  refine sj_icne 11 hf dJ2_add_2_3 (by decide) (fun g3 hf => ?_) (fun g3 hf => ?_)
  · exact sj_loc [0, 1, 2, 3] rfl (sJ2_add_2_b11 l G a0 a1 a2 a3 ρ h2 cT a0 a1 a2 a3 _ _ hf)
  · refine sj_aload_n 0 dJ2_add_2_6 rfl ?_
    obtain ⟨fs7, he7, hf⟩ := sd_isC_some hf
    refine sj_cR (rest := []) (fun _ _ _ e => sj_runV (n := 0) (As := []) (rest := []) (sJ2_grow l G a0 h _ _ _ e) he7 rfl rfl rfl rfl q345 q347 qs1 q121 q348 (by decide +kernel) rfl rfl ⟨Nat.le_of_ble_eq_true rfl, Nat.le_of_ble_eq_true rfl⟩ rfl (Nat.le_of_ble_eq_true rfl) dJ2_add_2_7) hf (fun r2 h c hf => ?_)
    refine sj_astore_n [(2, .ref r2), (0, .ref a0), (1, .ref a1), (3, .int a3)] dJ2_add_2_10 (by decide) rfl ?_
    exact sj_loc [1, 2, 0, 3] rfl (sJ2_add_2_b11 l G a0 a1 a2 a3 ρ h2 cT a0 a1 r2 a3 _ _ hf)
/-! java/util/ArrayList.add(Ljava/lang/Object;)Z -/
abbrev cJ2_add : ByteArray := prog_80_method_25_code
def yJ2_add : MethodName := ⟨RJ2, "add", "(Ljava/lang/Object;)Z"⟩
def dkwJ2_add_1 : List UInt8 := [172]
abbrev dktJ2_add_1 : List UInt8 := dkwJ2_add_1 ++ []
def dkwJ2_add_0 : List UInt8 := [42, 89, 180, 0, 63, 4, 96, 181, 0, 63, 42, 43, 42, 180, 0, 9, 42, 180, 0, 48, 182, 0, 131, 4]
abbrev dktJ2_add_0 : List UInt8 := dkwJ2_add_0 ++ dktJ2_add_1
theorem dksJ2_add_0 : cJ2_add.data.toList.drop 0 = dktJ2_add_0 := by decide +kernel
theorem dksJ2_add_1 : cJ2_add.data.toList.drop 24 = dktJ2_add_1 := dk_seg dksJ2_add_0 24 rfl rfl
theorem dJ2_add_0 : decode cJ2_add 0 = .ok (.aload_n 0, 1) := dk_42 (dk_at dksJ2_add_0 0 rfl rfl)
theorem dJ2_add_1 : decode cJ2_add 1 = .ok (.dup, 1) := dk_89 (dk_at dksJ2_add_0 1 rfl rfl)
theorem dJ2_add_2 : decode cJ2_add 2 = .ok (.getfield 63, 3) := dk_180 0 63 (dk_at dksJ2_add_0 2 rfl rfl)
theorem dJ2_add_5 : decode cJ2_add 5 = .ok (.iconst 1, 1) := dk_4 (dk_at dksJ2_add_0 5 rfl rfl)
theorem dJ2_add_6 : decode cJ2_add 6 = .ok (.iadd, 1) := dk_96 (dk_at dksJ2_add_0 6 rfl rfl)
theorem dJ2_add_7 : decode cJ2_add 7 = .ok (.putfield 63, 3) := dk_181 0 63 (dk_at dksJ2_add_0 7 rfl rfl)
theorem dJ2_add_10 : decode cJ2_add 10 = .ok (.aload_n 0, 1) := dk_42 (dk_at dksJ2_add_0 10 rfl rfl)
theorem dJ2_add_11 : decode cJ2_add 11 = .ok (.aload_n 1, 1) := dk_43 (dk_at dksJ2_add_0 11 rfl rfl)
theorem dJ2_add_12 : decode cJ2_add 12 = .ok (.aload_n 0, 1) := dk_42 (dk_at dksJ2_add_0 12 rfl rfl)
theorem dJ2_add_13 : decode cJ2_add 13 = .ok (.getfield 9, 3) := dk_180 0 9 (dk_at dksJ2_add_0 13 rfl rfl)
theorem dJ2_add_16 : decode cJ2_add 16 = .ok (.aload_n 0, 1) := dk_42 (dk_at dksJ2_add_0 16 rfl rfl)
theorem dJ2_add_17 : decode cJ2_add 17 = .ok (.getfield 48, 3) := dk_180 0 48 (dk_at dksJ2_add_0 17 rfl rfl)
theorem dJ2_add_20 : decode cJ2_add 20 = .ok (.invokevirtual 131, 3) := dk_182 0 131 (dk_at dksJ2_add_0 20 rfl rfl)
theorem dJ2_add_23 : decode cJ2_add 23 = .ok (.iconst 1, 1) := dk_4 (dk_at dksJ2_add_0 23 rfl rfl)
theorem dJ2_add_24 : decode cJ2_add 24 = .ok (.ireturn, 1) := dk_172 (dk_at dksJ2_add_1 0 rfl rfl)
theorem fdJ2_63_41 : sd_Fd "java/util/ArrayList" 63 41 0 := ⟨(RJ2, TJ2, 3), "java/util/ArrayList", rfl, by decide, rfl, in_J2, Or.inr q232, Or.inl q233⟩
theorem fpJ2_63_41 (n d : String) : sd_Fp ⟨"java/util/ArrayList", n, d⟩ 63 41 0 .int := ⟨(RJ2, TJ2, 3), "java/util/ArrayList", tyJ2, rfl, by decide, rfl, in_J2, Or.inr q232, tyJ2_ok, nmJ2, rfl, Or.inl ⟨rfl, Or.inl q233⟩⟩
abbrev mJ2_add : sd_Y := (yJ2_add, cJ2_add, 2, some (.boolean), none)
def fJ2_add (G : sd_G) (a0 : Nat) (a1 : Nat) : sd_M Int32 :=
  sd_bnd (sd_getI G 41 0 a0) fun v1 =>
  sd_bnd (sd_put 41 0 .int a0 (.int (v1 + 1))) fun _ =>
  sd_bnd (sd_getR G 41 1 a0) fun v2 =>
  sd_bnd (sd_getI G 41 2 a0) fun v3 =>
  sd_bnd (sd_isC G 41 a0) fun _ =>
  sd_bnd (fJ2_add_2 G a0 a1 v2 v3) fun _ =>
  sd_ret 1
set_option maxHeartbeats 4000000 in
theorem sJ2_add (l : Launch) (G : sd_G) (a0 : Nat) (a1 : Nat) (h : sd_H) (ρ : Int32) (cT : Nat × Nat) (h2 : sd_H) (hf : fJ2_add G a0 a1 h = some (ρ, cT, h2)) : sd_Met mJ2_add ((l, G), (6, 131), [.ref a0, .ref a1], (sd_oI ρ, h2), cT) h := by
  refine sd_entry (plainFor_of_name rfl) rfl (Nat.le_of_ble_eq_true rfl) ?_
  show sd_J mJ2_add ((l, G), (6, 131), [.ref a0, .ref a1], (sd_oI ρ, h2), cT) 0 [(0, .ref a0), (1, .ref a1)] [] h cT
  unfold fJ2_add at hf
  refine sj_aload_n 0 dJ2_add_0 rfl ?_
  refine sj_dup dJ2_add_1 rfl ?_
  refine sj_getI fdJ2_63_41 hf dJ2_add_2 (fun v1 hf => ?_)
  refine sj_iconst (v := 1) dJ2_add_5 (by decide) ?_
  refine sj_iadd dJ2_add_6 ?_
  refine sj_put (fpJ2_63_41 _ _) hf dJ2_add_7 (fun h hf => ?_)
  refine sj_aload_n 0 dJ2_add_10 rfl ?_
  refine sj_aload_n 1 dJ2_add_11 rfl ?_
  refine sj_aload_n 0 dJ2_add_12 rfl ?_
  refine sj_getR fdJ2_9_41 hf dJ2_add_13 (fun v2 hf => ?_)
  refine sj_aload_n 0 dJ2_add_16 rfl ?_
  refine sj_getI fdJ2_48_41 hf dJ2_add_17 (fun v3 hf => ?_)
  obtain ⟨fs20, he20, hf⟩ := sd_isC_some hf
  refine sj_cV (rest := []) (fun _ _ _ e => sj_runV (n := 3) (As := [.ref a1, .ref v2, .int v3]) (rest := []) (sJ2_add_2 l G a0 a1 v2 v3 h _ _ _ e) he20 rfl rfl rfl rfl q341 q343 qs0 q121 q344 (by decide +kernel) rfl rfl ⟨Nat.le_of_ble_eq_true rfl, Nat.le_of_ble_eq_true rfl⟩ rfl (Nat.le_of_ble_eq_true rfl) dJ2_add_20) hf (fun h c hf => ?_)
  refine sj_iconst (v := 1) dJ2_add_23 (by decide) ?_
  exact sj_zretC (o := sd_oI) (ty := .boolean) rfl hf rfl rfl rfl dJ2_add_24
/-! java/util/ArrayList.fastRemove([Ljava/lang/Object;I)V -/
abbrev cJ2_fastRemove : ByteArray := prog_80_method_39_code
def yJ2_fastRemove : MethodName := ⟨RJ2, "fastRemove", "([Ljava/lang/Object;I)V"⟩
def dkwJ2_fastRemove_1 : List UInt8 := [4, 96, 43, 28, 29, 28, 100, 184, 0, 112, 43, 42, 29, 90, 181, 0, 48, 1, 83, 177]
abbrev dktJ2_fastRemove_1 : List UInt8 := dkwJ2_fastRemove_1 ++ []
def dkwJ2_fastRemove_0 : List UInt8 := [42, 89, 180, 0, 63, 4, 96, 181, 0, 63, 42, 180, 0, 48, 4, 100, 89, 62, 28, 164, 0, 15, 43, 28]
abbrev dktJ2_fastRemove_0 : List UInt8 := dkwJ2_fastRemove_0 ++ dktJ2_fastRemove_1
theorem dksJ2_fastRemove_0 : cJ2_fastRemove.data.toList.drop 0 = dktJ2_fastRemove_0 := by decide +kernel
theorem dksJ2_fastRemove_1 : cJ2_fastRemove.data.toList.drop 24 = dktJ2_fastRemove_1 := dk_seg dksJ2_fastRemove_0 24 rfl rfl
theorem dJ2_fastRemove_0 : decode cJ2_fastRemove 0 = .ok (.aload_n 0, 1) := dk_42 (dk_at dksJ2_fastRemove_0 0 rfl rfl)
theorem dJ2_fastRemove_1 : decode cJ2_fastRemove 1 = .ok (.dup, 1) := dk_89 (dk_at dksJ2_fastRemove_0 1 rfl rfl)
theorem dJ2_fastRemove_2 : decode cJ2_fastRemove 2 = .ok (.getfield 63, 3) := dk_180 0 63 (dk_at dksJ2_fastRemove_0 2 rfl rfl)
theorem dJ2_fastRemove_5 : decode cJ2_fastRemove 5 = .ok (.iconst 1, 1) := dk_4 (dk_at dksJ2_fastRemove_0 5 rfl rfl)
theorem dJ2_fastRemove_6 : decode cJ2_fastRemove 6 = .ok (.iadd, 1) := dk_96 (dk_at dksJ2_fastRemove_0 6 rfl rfl)
theorem dJ2_fastRemove_7 : decode cJ2_fastRemove 7 = .ok (.putfield 63, 3) := dk_181 0 63 (dk_at dksJ2_fastRemove_0 7 rfl rfl)
theorem dJ2_fastRemove_10 : decode cJ2_fastRemove 10 = .ok (.aload_n 0, 1) := dk_42 (dk_at dksJ2_fastRemove_0 10 rfl rfl)
theorem dJ2_fastRemove_11 : decode cJ2_fastRemove 11 = .ok (.getfield 48, 3) := dk_180 0 48 (dk_at dksJ2_fastRemove_0 11 rfl rfl)
theorem dJ2_fastRemove_14 : decode cJ2_fastRemove 14 = .ok (.iconst 1, 1) := dk_4 (dk_at dksJ2_fastRemove_0 14 rfl rfl)
theorem dJ2_fastRemove_15 : decode cJ2_fastRemove 15 = .ok (.isub, 1) := dk_100 (dk_at dksJ2_fastRemove_0 15 rfl rfl)
theorem dJ2_fastRemove_16 : decode cJ2_fastRemove 16 = .ok (.dup, 1) := dk_89 (dk_at dksJ2_fastRemove_0 16 rfl rfl)
theorem dJ2_fastRemove_17 : decode cJ2_fastRemove 17 = .ok (.istore_n 3, 1) := dk_62 (dk_at dksJ2_fastRemove_0 17 rfl rfl)
theorem dJ2_fastRemove_18 : decode cJ2_fastRemove 18 = .ok (.iload_n 2, 1) := dk_28 (dk_at dksJ2_fastRemove_0 18 rfl rfl)
theorem dJ2_fastRemove_19 : decode cJ2_fastRemove 19 = .ok (.if_icmp .le 15, 3) := dk_164 0 15 (dk_at dksJ2_fastRemove_0 19 rfl rfl)
theorem dJ2_fastRemove_22 : decode cJ2_fastRemove 22 = .ok (.aload_n 1, 1) := dk_43 (dk_at dksJ2_fastRemove_0 22 rfl rfl)
theorem dJ2_fastRemove_23 : decode cJ2_fastRemove 23 = .ok (.iload_n 2, 1) := dk_28 (dk_at dksJ2_fastRemove_0 23 rfl rfl)
theorem dJ2_fastRemove_24 : decode cJ2_fastRemove 24 = .ok (.iconst 1, 1) := dk_4 (dk_at dksJ2_fastRemove_1 0 rfl rfl)
theorem dJ2_fastRemove_25 : decode cJ2_fastRemove 25 = .ok (.iadd, 1) := dk_96 (dk_at dksJ2_fastRemove_1 1 rfl rfl)
theorem dJ2_fastRemove_26 : decode cJ2_fastRemove 26 = .ok (.aload_n 1, 1) := dk_43 (dk_at dksJ2_fastRemove_1 2 rfl rfl)
theorem dJ2_fastRemove_27 : decode cJ2_fastRemove 27 = .ok (.iload_n 2, 1) := dk_28 (dk_at dksJ2_fastRemove_1 3 rfl rfl)
theorem dJ2_fastRemove_28 : decode cJ2_fastRemove 28 = .ok (.iload_n 3, 1) := dk_29 (dk_at dksJ2_fastRemove_1 4 rfl rfl)
theorem dJ2_fastRemove_29 : decode cJ2_fastRemove 29 = .ok (.iload_n 2, 1) := dk_28 (dk_at dksJ2_fastRemove_1 5 rfl rfl)
theorem dJ2_fastRemove_30 : decode cJ2_fastRemove 30 = .ok (.isub, 1) := dk_100 (dk_at dksJ2_fastRemove_1 6 rfl rfl)
theorem dJ2_fastRemove_31 : decode cJ2_fastRemove 31 = .ok (.invokestatic 112, 3) := dk_184 0 112 (dk_at dksJ2_fastRemove_1 7 rfl rfl)
theorem dJ2_fastRemove_34 : decode cJ2_fastRemove 34 = .ok (.aload_n 1, 1) := dk_43 (dk_at dksJ2_fastRemove_1 10 rfl rfl)
theorem dJ2_fastRemove_35 : decode cJ2_fastRemove 35 = .ok (.aload_n 0, 1) := dk_42 (dk_at dksJ2_fastRemove_1 11 rfl rfl)
theorem dJ2_fastRemove_36 : decode cJ2_fastRemove 36 = .ok (.iload_n 3, 1) := dk_29 (dk_at dksJ2_fastRemove_1 12 rfl rfl)
theorem dJ2_fastRemove_37 : decode cJ2_fastRemove 37 = .ok (.dup_x1, 1) := dk_90 (dk_at dksJ2_fastRemove_1 13 rfl rfl)
theorem dJ2_fastRemove_38 : decode cJ2_fastRemove 38 = .ok (.putfield 48, 3) := dk_181 0 48 (dk_at dksJ2_fastRemove_1 14 rfl rfl)
theorem dJ2_fastRemove_41 : decode cJ2_fastRemove 41 = .ok (.aconst_null, 1) := dk_1 (dk_at dksJ2_fastRemove_1 17 rfl rfl)
theorem dJ2_fastRemove_42 : decode cJ2_fastRemove 42 = .ok (.aastore, 1) := dk_83 (dk_at dksJ2_fastRemove_1 18 rfl rfl)
theorem dJ2_fastRemove_43 : decode cJ2_fastRemove 43 = .ok (.return_, 1) := dk_177 (dk_at dksJ2_fastRemove_1 19 rfl rfl)
abbrev mJ2_fastRemove : sd_Y := (yJ2_fastRemove, cJ2_fastRemove, 4, none, none)
def fJ2_fastRemove (G : sd_G) (a0 : Nat) (a1 : Nat) (a2 : Int32) : sd_M Unit :=
  sd_bnd (sd_getI G 41 0 a0) fun v1 =>
  sd_bnd (sd_put 41 0 .int a0 (.int (v1 + 1))) fun _ =>
  sd_bnd (sd_getI G 41 2 a0) fun v2 =>
  sd_bnd (sd_ret (v2 - 1)) fun x3 =>
  if x3 ≤ a2 then (
    sd_bnd (sd_put 41 2 .int a0 (.int x3)) fun _ =>
    sd_bnd (sd_astQ G 4 a1 x3 none) fun _ =>
    sd_ret ())
  else (
    sd_bnd (sd_cpQ G 4 a1 (a2 + 1) a1 a2 (x3 - a2)) fun _ =>
    sd_bnd (sd_put 41 2 .int a0 (.int x3)) fun _ =>
    sd_bnd (sd_astQ G 4 a1 x3 none) fun _ =>
    sd_ret ())
set_option maxHeartbeats 4000000 in
theorem sJ2_fastRemove (l : Launch) (G : sd_G) (a0 : Nat) (a1 : Nat) (a2 : Int32) (h : sd_H) (ρ : Unit) (cT : Nat × Nat) (h2 : sd_H) (hf : fJ2_fastRemove G a0 a1 a2 h = some (ρ, cT, h2)) : sd_Met mJ2_fastRemove ((l, G), (1, 18), [.ref a0, .ref a1, .int a2], (sd_oV ρ, h2), cT) h := by
  refine sd_entry (plainFor_of_name rfl) rfl (Nat.le_of_ble_eq_true rfl) ?_
  show sd_J mJ2_fastRemove ((l, G), (1, 18), [.ref a0, .ref a1, .int a2], (sd_oV ρ, h2), cT) 0 [(0, .ref a0), (1, .ref a1), (2, .int a2)] [] h cT
  unfold fJ2_fastRemove at hf
  refine sj_aload_n 0 dJ2_fastRemove_0 rfl ?_
  refine sj_dup dJ2_fastRemove_1 rfl ?_
  refine sj_getI fdJ2_63_41 hf dJ2_fastRemove_2 (fun v1 hf => ?_)
  refine sj_iconst (v := 1) dJ2_fastRemove_5 (by decide) ?_
  refine sj_iadd dJ2_fastRemove_6 ?_
  refine sj_put (fpJ2_63_41 _ _) hf dJ2_fastRemove_7 (fun h hf => ?_)
  refine sj_aload_n 0 dJ2_fastRemove_10 rfl ?_
  refine sj_getI fdJ2_48_41 hf dJ2_fastRemove_11 (fun v2 hf => ?_)
  refine sj_iconst (v := 1) dJ2_fastRemove_14 (by decide) ?_
  refine sj_isub dJ2_fastRemove_15 ?_
  refine sj_nameI hf (fun x3 hf => ?_)
  refine sj_dup dJ2_fastRemove_16 rfl ?_
  refine sj_istore_n [(3, .int x3), (0, .ref a0), (1, .ref a1), (2, .int a2)] dJ2_fastRemove_17 (by decide) rfl ?_
  refine sj_iload_n 3 dJ2_fastRemove_18 rfl ?_
  refine sj_icle 34 hf dJ2_fastRemove_19 (by decide) (fun g19 hf => ?_) (fun g19 hf => ?_)
  · refine sj_aload_n 2 dJ2_fastRemove_34 rfl ?_
    refine sj_aload_n 1 dJ2_fastRemove_35 rfl ?_
    refine sj_iload_n 0 dJ2_fastRemove_36 rfl ?_
    refine sj_dup_x1 dJ2_fastRemove_37 rfl rfl ?_
    refine sj_put (fpJ2_48_41 _ _) hf dJ2_fastRemove_38 (fun h hf => ?_)
    refine sj_null dJ2_fastRemove_41 ?_
    refine sj_aastQ rfl rfl hf dJ2_fastRemove_42 (fun h hf => ?_)
    exact sj_vret (o := sd_oV) hf rfl rfl rfl dJ2_fastRemove_43
  · refine sj_aload_n 2 dJ2_fastRemove_22 rfl ?_
    refine sj_iload_n 3 dJ2_fastRemove_23 rfl ?_
    refine sj_iconst (v := 1) dJ2_fastRemove_24 (by decide) ?_
    refine sj_iadd dJ2_fastRemove_25 ?_
    refine sj_aload_n 2 dJ2_fastRemove_26 rfl ?_
    refine sj_iload_n 3 dJ2_fastRemove_27 rfl ?_
    refine sj_iload_n 0 dJ2_fastRemove_28 rfl ?_
    refine sj_iload_n 3 dJ2_fastRemove_29 rfl ?_
    refine sj_isub dJ2_fastRemove_30 ?_
    refine sj_cpQ rfl q2233 (Nat.le_of_ble_eq_true rfl) (Nat.le_of_ble_eq_true rfl) hf dJ2_fastRemove_31 (fun h hf => ?_)
    refine sj_aload_n 2 dJ2_fastRemove_34 rfl ?_
    refine sj_aload_n 1 dJ2_fastRemove_35 rfl ?_
    refine sj_iload_n 0 dJ2_fastRemove_36 rfl ?_
    refine sj_dup_x1 dJ2_fastRemove_37 rfl rfl ?_
    refine sj_put (fpJ2_48_41 _ _) hf dJ2_fastRemove_38 (fun h hf => ?_)
    refine sj_null dJ2_fastRemove_41 ?_
    refine sj_aastQ rfl rfl hf dJ2_fastRemove_42 (fun h hf => ?_)
    exact sj_vret (o := sd_oV) hf rfl rfl rfl dJ2_fastRemove_43
/-! java/util/ArrayList.remove(I)Ljava/lang/Object; -/
abbrev cJ2_remove : ByteArray := prog_80_method_29_code
def yJ2_remove : MethodName := ⟨RJ2, "remove", "(I)Ljava/lang/Object;"⟩
def dkwJ2_remove_1 : List UInt8 := [45, 176]
abbrev dktJ2_remove_1 : List UInt8 := dkwJ2_remove_1 ++ []
def dkwJ2_remove_0 : List UInt8 := [27, 42, 180, 0, 48, 184, 0, 118, 87, 42, 180, 0, 9, 77, 44, 27, 50, 78, 42, 44, 27, 182, 0, 144]
abbrev dktJ2_remove_0 : List UInt8 := dkwJ2_remove_0 ++ dktJ2_remove_1
theorem dksJ2_remove_0 : cJ2_remove.data.toList.drop 0 = dktJ2_remove_0 := by decide +kernel
theorem dksJ2_remove_1 : cJ2_remove.data.toList.drop 24 = dktJ2_remove_1 := dk_seg dksJ2_remove_0 24 rfl rfl
theorem dJ2_remove_0 : decode cJ2_remove 0 = .ok (.iload_n 1, 1) := dk_27 (dk_at dksJ2_remove_0 0 rfl rfl)
theorem dJ2_remove_1 : decode cJ2_remove 1 = .ok (.aload_n 0, 1) := dk_42 (dk_at dksJ2_remove_0 1 rfl rfl)
theorem dJ2_remove_2 : decode cJ2_remove 2 = .ok (.getfield 48, 3) := dk_180 0 48 (dk_at dksJ2_remove_0 2 rfl rfl)
theorem dJ2_remove_5 : decode cJ2_remove 5 = .ok (.invokestatic 118, 3) := dk_184 0 118 (dk_at dksJ2_remove_0 5 rfl rfl)
theorem dJ2_remove_8 : decode cJ2_remove 8 = .ok (.pop, 1) := dk_87 (dk_at dksJ2_remove_0 8 rfl rfl)
theorem dJ2_remove_9 : decode cJ2_remove 9 = .ok (.aload_n 0, 1) := dk_42 (dk_at dksJ2_remove_0 9 rfl rfl)
theorem dJ2_remove_10 : decode cJ2_remove 10 = .ok (.getfield 9, 3) := dk_180 0 9 (dk_at dksJ2_remove_0 10 rfl rfl)
theorem dJ2_remove_13 : decode cJ2_remove 13 = .ok (.astore_n 2, 1) := dk_77 (dk_at dksJ2_remove_0 13 rfl rfl)
theorem dJ2_remove_14 : decode cJ2_remove 14 = .ok (.aload_n 2, 1) := dk_44 (dk_at dksJ2_remove_0 14 rfl rfl)
theorem dJ2_remove_15 : decode cJ2_remove 15 = .ok (.iload_n 1, 1) := dk_27 (dk_at dksJ2_remove_0 15 rfl rfl)
theorem dJ2_remove_16 : decode cJ2_remove 16 = .ok (.aaload, 1) := dk_50 (dk_at dksJ2_remove_0 16 rfl rfl)
theorem dJ2_remove_17 : decode cJ2_remove 17 = .ok (.astore_n 3, 1) := dk_78 (dk_at dksJ2_remove_0 17 rfl rfl)
theorem dJ2_remove_18 : decode cJ2_remove 18 = .ok (.aload_n 0, 1) := dk_42 (dk_at dksJ2_remove_0 18 rfl rfl)
theorem dJ2_remove_19 : decode cJ2_remove 19 = .ok (.aload_n 2, 1) := dk_44 (dk_at dksJ2_remove_0 19 rfl rfl)
theorem dJ2_remove_20 : decode cJ2_remove 20 = .ok (.iload_n 1, 1) := dk_27 (dk_at dksJ2_remove_0 20 rfl rfl)
theorem dJ2_remove_21 : decode cJ2_remove 21 = .ok (.invokevirtual 144, 3) := dk_182 0 144 (dk_at dksJ2_remove_0 21 rfl rfl)
theorem dJ2_remove_24 : decode cJ2_remove 24 = .ok (.aload_n 3, 1) := dk_45 (dk_at dksJ2_remove_1 0 rfl rfl)
theorem dJ2_remove_25 : decode cJ2_remove 25 = .ok (.areturn, 1) := dk_176 (dk_at dksJ2_remove_1 1 rfl rfl)
abbrev mJ2_remove : sd_Y := (yJ2_remove, cJ2_remove, 4, some (.object "java/lang/Object"), none)
def fJ2_remove (G : sd_G) (a0 : Nat) (a1 : Int32) : sd_M Nat :=
  sd_bnd (sd_getI G 41 2 a0) fun v1 =>
  sd_bnd (fJ23_checkIndex G a1 v1) fun r2 =>
  sd_bnd (sd_getR G 41 1 a0) fun v3 =>
  sd_bnd (sd_aldR G 4 v3 a1) fun v4 =>
  sd_bnd (sd_isC G 41 a0) fun _ =>
  sd_bnd (fJ2_fastRemove G a0 v3 a1) fun _ =>
  sd_ret v4
set_option maxHeartbeats 4000000 in
theorem sJ2_remove (l : Launch) (G : sd_G) (a0 : Nat) (a1 : Int32) (h : sd_H) (ρ : Nat) (cT : Nat × Nat) (h2 : sd_H) (hf : fJ2_remove G a0 a1 h = some (ρ, cT, h2)) : sd_Met mJ2_remove ((l, G), (2, 43), [.ref a0, .int a1], (sd_oR ρ, h2), cT) h := by
  refine sd_entry (plainFor_of_name rfl) rfl (Nat.le_of_ble_eq_true rfl) ?_
  show sd_J mJ2_remove ((l, G), (2, 43), [.ref a0, .int a1], (sd_oR ρ, h2), cT) 0 [(0, .ref a0), (1, .int a1)] [] h cT
  unfold fJ2_remove at hf
  refine sj_iload_n 1 dJ2_remove_0 rfl ?_
  refine sj_aload_n 0 dJ2_remove_1 rfl ?_
  refine sj_getI fdJ2_48_41 hf dJ2_remove_2 (fun v1 hf => ?_)
  refine sj_cI (rest := []) (fun _ _ _ e => sj_runS (n := 2) (rest := []) (sJ23_checkIndex l G a1 v1 h _ _ _ e) rfl rfl q1005 q1006 q150 q1007 (by decide +kernel) rfl ⟨Nat.le_of_ble_eq_true rfl, Nat.le_of_ble_eq_true rfl⟩ rfl (Nat.le_of_ble_eq_true rfl) dJ2_remove_5) hf (fun r2 h c hf => ?_)
  refine sj_pop dJ2_remove_8 rfl ?_
  refine sj_aload_n 0 dJ2_remove_9 rfl ?_
  refine sj_getR fdJ2_9_41 hf dJ2_remove_10 (fun v3 hf => ?_)
  refine sj_astore_n [(2, .ref v3), (0, .ref a0), (1, .int a1)] dJ2_remove_13 (by decide) rfl ?_
  refine sj_aload_n 0 dJ2_remove_14 rfl ?_
  refine sj_iload_n 2 dJ2_remove_15 rfl ?_
  refine sj_aald rfl rfl hf dJ2_remove_16 (fun v4 hf => ?_)
  refine sj_astore_n [(3, .ref v4), (2, .ref v3), (0, .ref a0), (1, .int a1)] dJ2_remove_17 (by decide) rfl ?_
  refine sj_aload_n 2 dJ2_remove_18 rfl ?_
  refine sj_aload_n 1 dJ2_remove_19 rfl ?_
  refine sj_iload_n 3 dJ2_remove_20 rfl ?_
  obtain ⟨fs21, he21, hf⟩ := sd_isC_some hf
  refine sj_cV (rest := []) (fun _ _ _ e => sj_runV (n := 2) (As := [.ref v3, .int a1]) (rest := []) (sJ2_fastRemove l G a0 v3 a1 h _ _ _ e) he21 rfl rfl rfl rfl q2248 q2250 qs33 q121 q2251 (by decide +kernel) rfl rfl ⟨Nat.le_of_ble_eq_true rfl, Nat.le_of_ble_eq_true rfl⟩ rfl (Nat.le_of_ble_eq_true rfl) dJ2_remove_21) hf (fun h c hf => ?_)
  refine sj_aload_n 0 dJ2_remove_24 rfl ?_
  exact sj_aret (o := sd_oR) hf rfl rfl rfl (Or.inl ⟨_, rfl⟩) dJ2_remove_25
/-! java/util/ArrayList.clear()V -/
abbrev cJ2_clear : ByteArray := prog_80_method_40_code
def yJ2_clear : MethodName := ⟨RJ2, "clear", "()V"⟩
def dkwJ2_clear_1 : List UInt8 := [181, 0, 48, 62, 29, 28, 162, 0, 13, 43, 29, 1, 83, 132, 3, 1, 167, 255, 244, 177]
abbrev dktJ2_clear_1 : List UInt8 := dkwJ2_clear_1 ++ []
def dkwJ2_clear_0 : List UInt8 := [42, 89, 180, 0, 63, 4, 96, 181, 0, 63, 42, 180, 0, 9, 76, 42, 180, 0, 48, 61, 42, 3, 90]
abbrev dktJ2_clear_0 : List UInt8 := dkwJ2_clear_0 ++ dktJ2_clear_1
theorem dksJ2_clear_0 : cJ2_clear.data.toList.drop 0 = dktJ2_clear_0 := by decide +kernel
theorem dksJ2_clear_1 : cJ2_clear.data.toList.drop 23 = dktJ2_clear_1 := dk_seg dksJ2_clear_0 23 rfl rfl
theorem dJ2_clear_0 : decode cJ2_clear 0 = .ok (.aload_n 0, 1) := dk_42 (dk_at dksJ2_clear_0 0 rfl rfl)
theorem dJ2_clear_1 : decode cJ2_clear 1 = .ok (.dup, 1) := dk_89 (dk_at dksJ2_clear_0 1 rfl rfl)
theorem dJ2_clear_2 : decode cJ2_clear 2 = .ok (.getfield 63, 3) := dk_180 0 63 (dk_at dksJ2_clear_0 2 rfl rfl)
theorem dJ2_clear_5 : decode cJ2_clear 5 = .ok (.iconst 1, 1) := dk_4 (dk_at dksJ2_clear_0 5 rfl rfl)
theorem dJ2_clear_6 : decode cJ2_clear 6 = .ok (.iadd, 1) := dk_96 (dk_at dksJ2_clear_0 6 rfl rfl)
theorem dJ2_clear_7 : decode cJ2_clear 7 = .ok (.putfield 63, 3) := dk_181 0 63 (dk_at dksJ2_clear_0 7 rfl rfl)
theorem dJ2_clear_10 : decode cJ2_clear 10 = .ok (.aload_n 0, 1) := dk_42 (dk_at dksJ2_clear_0 10 rfl rfl)
theorem dJ2_clear_11 : decode cJ2_clear 11 = .ok (.getfield 9, 3) := dk_180 0 9 (dk_at dksJ2_clear_0 11 rfl rfl)
theorem dJ2_clear_14 : decode cJ2_clear 14 = .ok (.astore_n 1, 1) := dk_76 (dk_at dksJ2_clear_0 14 rfl rfl)
theorem dJ2_clear_15 : decode cJ2_clear 15 = .ok (.aload_n 0, 1) := dk_42 (dk_at dksJ2_clear_0 15 rfl rfl)
theorem dJ2_clear_16 : decode cJ2_clear 16 = .ok (.getfield 48, 3) := dk_180 0 48 (dk_at dksJ2_clear_0 16 rfl rfl)
theorem dJ2_clear_19 : decode cJ2_clear 19 = .ok (.istore_n 2, 1) := dk_61 (dk_at dksJ2_clear_0 19 rfl rfl)
theorem dJ2_clear_20 : decode cJ2_clear 20 = .ok (.aload_n 0, 1) := dk_42 (dk_at dksJ2_clear_0 20 rfl rfl)
theorem dJ2_clear_21 : decode cJ2_clear 21 = .ok (.iconst 0, 1) := dk_3 (dk_at dksJ2_clear_0 21 rfl rfl)
theorem dJ2_clear_22 : decode cJ2_clear 22 = .ok (.dup_x1, 1) := dk_90 (dk_at dksJ2_clear_0 22 rfl rfl)
theorem dJ2_clear_23 : decode cJ2_clear 23 = .ok (.putfield 48, 3) := dk_181 0 48 (dk_at dksJ2_clear_1 0 rfl rfl)
theorem dJ2_clear_26 : decode cJ2_clear 26 = .ok (.istore_n 3, 1) := dk_62 (dk_at dksJ2_clear_1 3 rfl rfl)
theorem dJ2_clear_27 : decode cJ2_clear 27 = .ok (.iload_n 3, 1) := dk_29 (dk_at dksJ2_clear_1 4 rfl rfl)
theorem dJ2_clear_28 : decode cJ2_clear 28 = .ok (.iload_n 2, 1) := dk_28 (dk_at dksJ2_clear_1 5 rfl rfl)
theorem dJ2_clear_29 : decode cJ2_clear 29 = .ok (.if_icmp .ge 13, 3) := dk_162 0 13 (dk_at dksJ2_clear_1 6 rfl rfl)
theorem dJ2_clear_32 : decode cJ2_clear 32 = .ok (.aload_n 1, 1) := dk_43 (dk_at dksJ2_clear_1 9 rfl rfl)
theorem dJ2_clear_33 : decode cJ2_clear 33 = .ok (.iload_n 3, 1) := dk_29 (dk_at dksJ2_clear_1 10 rfl rfl)
theorem dJ2_clear_34 : decode cJ2_clear 34 = .ok (.aconst_null, 1) := dk_1 (dk_at dksJ2_clear_1 11 rfl rfl)
theorem dJ2_clear_35 : decode cJ2_clear 35 = .ok (.aastore, 1) := dk_83 (dk_at dksJ2_clear_1 12 rfl rfl)
theorem dJ2_clear_36 : decode cJ2_clear 36 = .ok (.iinc 3 1, 3) := dk_132 3 1 (dk_at dksJ2_clear_1 13 rfl rfl)
theorem dJ2_clear_39 : decode cJ2_clear 39 = .ok (.goto (-12), 3) := dk_167 255 244 (dk_at dksJ2_clear_1 16 rfl rfl)
theorem dJ2_clear_42 : decode cJ2_clear 42 = .ok (.return_, 1) := dk_177 (dk_at dksJ2_clear_1 19 rfl rfl)
abbrev mJ2_clear : sd_Y := (yJ2_clear, cJ2_clear, 4, none, none)
def fJ2_clear_b27 (G : sd_G) (k27 : Nat × Int32 × Int32 → sd_M Unit) (w1 : Nat) (w2 : Int32) (w3 : Int32) : sd_M Unit :=
  if w2 ≤ w3 then (
    sd_ret ())
  else (
    sd_bnd (sd_astQ G 4 w1 w3 none) fun _ =>
    sd_bnd (sd_ret (w3 + 1)) fun x4 =>
    k27 (w1, w2, x4))
set_option maxHeartbeats 4000000 in
theorem sJ2_clear_b27 (l : Launch) (G : sd_G) (a0 : Nat) (ρ : Unit) (h2 : sd_H) (cT : Nat × Nat) (k27 : Nat × Int32 × Int32 → sd_M Unit) (Hk27 : ∀ (q : Nat × Int32 × Int32) (h : sd_H) (c : Nat × Nat), k27 q h = some (ρ, c, h2) → sd_J mJ2_clear ((l, G), (0, 0), [.ref a0], (sd_oV ρ, h2), cT) 27 [(1, .ref q.1), (2, .int q.2.1), (3, .int q.2.2)] [] h c) (w1 : Nat) (w2 : Int32) (w3 : Int32) (h : sd_H) (c : Nat × Nat) (hf : fJ2_clear_b27 G k27 w1 w2 w3 h = some (ρ, c, h2)) : sd_J mJ2_clear ((l, G), (0, 0), [.ref a0], (sd_oV ρ, h2), cT) 27 [(1, .ref w1), (2, .int w2), (3, .int w3)] [] h c := by
  unfold fJ2_clear_b27 at hf
  refine sj_iload_n 2 dJ2_clear_27 rfl ?_
  refine sj_iload_n 1 dJ2_clear_28 rfl ?_
  refine sj_icge 42 hf dJ2_clear_29 (by decide) (fun g29 hf => ?_) (fun g29 hf => ?_)
  · exact sj_vret (o := sd_oV) hf rfl rfl rfl dJ2_clear_42
  · refine sj_aload_n 0 dJ2_clear_32 rfl ?_
    refine sj_iload_n 2 dJ2_clear_33 rfl ?_
    refine sj_null dJ2_clear_34 ?_
    refine sj_aastQ rfl rfl hf dJ2_clear_35 (fun h hf => ?_)
    refine sj_iincN 2 (fun x4 => [(3, .int x4), (1, .ref w1), (2, .int w2)]) 1 hf dJ2_clear_36 rfl (by decide) (by decide) (fun _ => rfl) (fun x4 hf => ?_)
    refine sj_goto 27 dJ2_clear_39 (by decide) ?_
    exact sj_loc [1, 2, 0] rfl (Hk27 (w1, w2, x4) _ _ hf)
theorem sJ2_clear_b27_loop (l : Launch) (G : sd_G) (a0 : Nat) (ρ : Unit) (h2 : sd_H) (cT : Nat × Nat) (n : Nat) : ∀ (q : Nat × Int32 × Int32) (h : sd_H) (c : Nat × Nat), sd_loop (fun k s => fJ2_clear_b27 G k s.1 s.2.1 s.2.2) n q h = some (ρ, c, h2) → sd_J mJ2_clear ((l, G), (0, 0), [.ref a0], (sd_oV ρ, h2), cT) 27 [(1, .ref q.1), (2, .int q.2.1), (3, .int q.2.2)] [] h c := by
  induction n with
  | zero => intro q h c hf; cases hf
  | succ n ih => intro q h c hf; exact sJ2_clear_b27 l G a0 ρ h2 cT _ ih _ _ _ _ _ hf
def fJ2_clear (G : sd_G) (a0 : Nat) : sd_M Unit :=
  sd_bnd (sd_getI G 41 0 a0) fun v1 =>
  sd_bnd (sd_put 41 0 .int a0 (.int (v1 + 1))) fun _ =>
  sd_bnd (sd_getR G 41 1 a0) fun v2 =>
  sd_bnd (sd_getI G 41 2 a0) fun v3 =>
  sd_bnd (sd_put 41 2 .int a0 (.int 0)) fun _ =>
  sd_loop (fun k s => fJ2_clear_b27 G k s.1 s.2.1 s.2.2) sd_FU (v2, v3, 0)
set_option maxHeartbeats 4000000 in
theorem sJ2_clear (l : Launch) (G : sd_G) (a0 : Nat) (h : sd_H) (ρ : Unit) (cT : Nat × Nat) (h2 : sd_H) (hf : fJ2_clear G a0 h = some (ρ, cT, h2)) : sd_Met mJ2_clear ((l, G), (0, 0), [.ref a0], (sd_oV ρ, h2), cT) h := by
  refine sd_entry (plainFor_of_name rfl) rfl (Nat.le_of_ble_eq_true rfl) ?_
  show sd_J mJ2_clear ((l, G), (0, 0), [.ref a0], (sd_oV ρ, h2), cT) 0 [(0, .ref a0)] [] h cT
  unfold fJ2_clear at hf
  refine sj_aload_n 0 dJ2_clear_0 rfl ?_
  refine sj_dup dJ2_clear_1 rfl ?_
  refine sj_getI fdJ2_63_41 hf dJ2_clear_2 (fun v1 hf => ?_)
  refine sj_iconst (v := 1) dJ2_clear_5 (by decide) ?_
  refine sj_iadd dJ2_clear_6 ?_
  refine sj_put (fpJ2_63_41 _ _) hf dJ2_clear_7 (fun h hf => ?_)
  refine sj_aload_n 0 dJ2_clear_10 rfl ?_
  refine sj_getR fdJ2_9_41 hf dJ2_clear_11 (fun v2 hf => ?_)
  refine sj_astore_n [(1, .ref v2), (0, .ref a0)] dJ2_clear_14 (by decide) rfl ?_
  refine sj_aload_n 1 dJ2_clear_15 rfl ?_
  refine sj_getI fdJ2_48_41 hf dJ2_clear_16 (fun v3 hf => ?_)
  refine sj_istore_n [(2, .int v3), (1, .ref v2), (0, .ref a0)] dJ2_clear_19 (by decide) rfl ?_
  refine sj_aload_n 2 dJ2_clear_20 rfl ?_
  refine sj_iconst (v := 0) dJ2_clear_21 (by decide) ?_
  refine sj_dup_x1 dJ2_clear_22 rfl rfl ?_
  refine sj_put (fpJ2_48_41 _ _) hf dJ2_clear_23 (fun h hf => ?_)
  refine sj_istore_n [(3, .int 0), (2, .int v3), (1, .ref v2), (0, .ref a0)] dJ2_clear_26 (by decide) rfl ?_
  exact sj_loc [2, 1, 0] rfl (sJ2_clear_b27_loop l G a0 ρ h2 cT sd_FU (v2, v3, 0) _ _ hf)
/-! java/util/ArrayList.toArray()[Ljava/lang/Object; -/
abbrev cJ2_toArray : ByteArray := prog_80_method_16_code
def yJ2_toArray : MethodName := ⟨RJ2, "toArray", "()[Ljava/lang/Object;"⟩
def dkwJ2_toArray_0 : List UInt8 := [42, 180, 0, 9, 42, 180, 0, 48, 184, 0, 66, 176]
abbrev dktJ2_toArray_0 : List UInt8 := dkwJ2_toArray_0 ++ []
theorem dksJ2_toArray_0 : cJ2_toArray.data.toList.drop 0 = dktJ2_toArray_0 := by decide +kernel
theorem dJ2_toArray_0 : decode cJ2_toArray 0 = .ok (.aload_n 0, 1) := dk_42 (dk_at dksJ2_toArray_0 0 rfl rfl)
theorem dJ2_toArray_1 : decode cJ2_toArray 1 = .ok (.getfield 9, 3) := dk_180 0 9 (dk_at dksJ2_toArray_0 1 rfl rfl)
theorem dJ2_toArray_4 : decode cJ2_toArray 4 = .ok (.aload_n 0, 1) := dk_42 (dk_at dksJ2_toArray_0 4 rfl rfl)
theorem dJ2_toArray_5 : decode cJ2_toArray 5 = .ok (.getfield 48, 3) := dk_180 0 48 (dk_at dksJ2_toArray_0 5 rfl rfl)
theorem dJ2_toArray_8 : decode cJ2_toArray 8 = .ok (.invokestatic 66, 3) := dk_184 0 66 (dk_at dksJ2_toArray_0 8 rfl rfl)
theorem dJ2_toArray_11 : decode cJ2_toArray 11 = .ok (.areturn, 1) := dk_176 (dk_at dksJ2_toArray_0 11 rfl rfl)
abbrev mJ2_toArray : sd_Y := (yJ2_toArray, cJ2_toArray, 1, some ((.array (.object "java/lang/Object"))), none)
def fJ2_toArray (G : sd_G) (a0 : Nat) : sd_M Nat :=
  sd_bnd (sd_getR G 41 1 a0) fun v1 =>
  sd_bnd (sd_getI G 41 2 a0) fun v2 =>
  sd_bnd (fJ5_copyOf G v1 v2) fun r3 =>
  sd_ret r3
set_option maxHeartbeats 4000000 in
theorem sJ2_toArray (l : Launch) (G : sd_G) (a0 : Nat) (h : sd_H) (ρ : Nat) (cT : Nat × Nat) (h2 : sd_H) (hf : fJ2_toArray G a0 h = some (ρ, cT, h2)) : sd_Met mJ2_toArray ((l, G), (3, 65), [.ref a0], (sd_oR ρ, h2), cT) h := by
  refine sd_entry (plainFor_of_name rfl) rfl (Nat.le_of_ble_eq_true rfl) ?_
  show sd_J mJ2_toArray ((l, G), (3, 65), [.ref a0], (sd_oR ρ, h2), cT) 0 [(0, .ref a0)] [] h cT
  unfold fJ2_toArray at hf
  refine sj_aload_n 0 dJ2_toArray_0 rfl ?_
  refine sj_getR fdJ2_9_41 hf dJ2_toArray_1 (fun v1 hf => ?_)
  refine sj_aload_n 0 dJ2_toArray_4 rfl ?_
  refine sj_getI fdJ2_48_41 hf dJ2_toArray_5 (fun v2 hf => ?_)
  refine sj_cR (rest := []) (fun _ _ _ e => sj_runS (n := 2) (rest := []) (sJ5_copyOf l G v1 v2 h _ _ _ e) rfl rfl q363 q364 q125 q365 (by decide +kernel) rfl ⟨Nat.le_of_ble_eq_true rfl, Nat.le_of_ble_eq_true rfl⟩ rfl (Nat.le_of_ble_eq_true rfl) dJ2_toArray_8) hf (fun r3 h c hf => ?_)
  exact sj_aret (o := sd_oR) hf rfl rfl rfl (Or.inr ⟨_, rfl⟩) dJ2_toArray_11
/-! java/util/ArrayList.addAll(Ljava/util/Collection;)Z -/
abbrev cJ2_addAll : ByteArray := prog_80_method_41_code
def yJ2_addAll : MethodName := ⟨RJ2, "addAll", "(Ljava/util/Collection;)Z"⟩
def dkwJ2_addAll_3 : List UInt8 := [181, 0, 48, 4, 172]
abbrev dktJ2_addAll_3 : List UInt8 := dkwJ2_addAll_3 ++ []
def dkwJ2_addAll_2 : List UInt8 := [21, 5, 29, 96, 182, 0, 69, 58, 4, 44, 3, 25, 4, 21, 5, 29, 184, 0, 112, 42, 21, 5, 29, 96]
abbrev dktJ2_addAll_2 : List UInt8 := dkwJ2_addAll_2 ++ dktJ2_addAll_3
def dkwJ2_addAll_1 : List UInt8 := [3, 172, 29, 42, 180, 0, 9, 89, 58, 4, 190, 42, 180, 0, 48, 89, 54, 5, 100, 164, 0, 13, 42]
abbrev dktJ2_addAll_1 : List UInt8 := dkwJ2_addAll_1 ++ dktJ2_addAll_2
def dkwJ2_addAll_0 : List UInt8 := [43, 185, 0, 42, 1, 0, 77, 42, 89, 180, 0, 63, 4, 96, 181, 0, 63, 44, 190, 62, 29, 154, 0, 5]
abbrev dktJ2_addAll_0 : List UInt8 := dkwJ2_addAll_0 ++ dktJ2_addAll_1
theorem dksJ2_addAll_0 : cJ2_addAll.data.toList.drop 0 = dktJ2_addAll_0 := by decide +kernel
theorem dksJ2_addAll_1 : cJ2_addAll.data.toList.drop 24 = dktJ2_addAll_1 := dk_seg dksJ2_addAll_0 24 rfl rfl
theorem dksJ2_addAll_2 : cJ2_addAll.data.toList.drop 47 = dktJ2_addAll_2 := dk_seg dksJ2_addAll_1 23 rfl rfl
theorem dksJ2_addAll_3 : cJ2_addAll.data.toList.drop 71 = dktJ2_addAll_3 := dk_seg dksJ2_addAll_2 24 rfl rfl
theorem dJ2_addAll_0 : decode cJ2_addAll 0 = .ok (.aload_n 1, 1) := dk_43 (dk_at dksJ2_addAll_0 0 rfl rfl)
theorem dJ2_addAll_1 : decode cJ2_addAll 1 = .ok (.invokeinterface 42 1, 5) := by decide +kernel
theorem dJ2_addAll_6 : decode cJ2_addAll 6 = .ok (.astore_n 2, 1) := dk_77 (dk_at dksJ2_addAll_0 6 rfl rfl)
theorem dJ2_addAll_7 : decode cJ2_addAll 7 = .ok (.aload_n 0, 1) := dk_42 (dk_at dksJ2_addAll_0 7 rfl rfl)
theorem dJ2_addAll_8 : decode cJ2_addAll 8 = .ok (.dup, 1) := dk_89 (dk_at dksJ2_addAll_0 8 rfl rfl)
theorem dJ2_addAll_9 : decode cJ2_addAll 9 = .ok (.getfield 63, 3) := dk_180 0 63 (dk_at dksJ2_addAll_0 9 rfl rfl)
theorem dJ2_addAll_12 : decode cJ2_addAll 12 = .ok (.iconst 1, 1) := dk_4 (dk_at dksJ2_addAll_0 12 rfl rfl)
theorem dJ2_addAll_13 : decode cJ2_addAll 13 = .ok (.iadd, 1) := dk_96 (dk_at dksJ2_addAll_0 13 rfl rfl)
theorem dJ2_addAll_14 : decode cJ2_addAll 14 = .ok (.putfield 63, 3) := dk_181 0 63 (dk_at dksJ2_addAll_0 14 rfl rfl)
theorem dJ2_addAll_17 : decode cJ2_addAll 17 = .ok (.aload_n 2, 1) := dk_44 (dk_at dksJ2_addAll_0 17 rfl rfl)
theorem dJ2_addAll_18 : decode cJ2_addAll 18 = .ok (.arraylength, 1) := dk_190 (dk_at dksJ2_addAll_0 18 rfl rfl)
theorem dJ2_addAll_19 : decode cJ2_addAll 19 = .ok (.istore_n 3, 1) := dk_62 (dk_at dksJ2_addAll_0 19 rfl rfl)
theorem dJ2_addAll_20 : decode cJ2_addAll 20 = .ok (.iload_n 3, 1) := dk_29 (dk_at dksJ2_addAll_0 20 rfl rfl)
theorem dJ2_addAll_21 : decode cJ2_addAll 21 = .ok (.ifCond .ne 5, 3) := dk_154 0 5 (dk_at dksJ2_addAll_0 21 rfl rfl)
theorem dJ2_addAll_24 : decode cJ2_addAll 24 = .ok (.iconst 0, 1) := dk_3 (dk_at dksJ2_addAll_1 0 rfl rfl)
theorem dJ2_addAll_25 : decode cJ2_addAll 25 = .ok (.ireturn, 1) := dk_172 (dk_at dksJ2_addAll_1 1 rfl rfl)
theorem dJ2_addAll_26 : decode cJ2_addAll 26 = .ok (.iload_n 3, 1) := dk_29 (dk_at dksJ2_addAll_1 2 rfl rfl)
theorem dJ2_addAll_27 : decode cJ2_addAll 27 = .ok (.aload_n 0, 1) := dk_42 (dk_at dksJ2_addAll_1 3 rfl rfl)
theorem dJ2_addAll_28 : decode cJ2_addAll 28 = .ok (.getfield 9, 3) := dk_180 0 9 (dk_at dksJ2_addAll_1 4 rfl rfl)
theorem dJ2_addAll_31 : decode cJ2_addAll 31 = .ok (.dup, 1) := dk_89 (dk_at dksJ2_addAll_1 7 rfl rfl)
theorem dJ2_addAll_32 : decode cJ2_addAll 32 = .ok (.astore 4, 2) := dk_58 4 (dk_at dksJ2_addAll_1 8 rfl rfl)
theorem dJ2_addAll_34 : decode cJ2_addAll 34 = .ok (.arraylength, 1) := dk_190 (dk_at dksJ2_addAll_1 10 rfl rfl)
theorem dJ2_addAll_35 : decode cJ2_addAll 35 = .ok (.aload_n 0, 1) := dk_42 (dk_at dksJ2_addAll_1 11 rfl rfl)
theorem dJ2_addAll_36 : decode cJ2_addAll 36 = .ok (.getfield 48, 3) := dk_180 0 48 (dk_at dksJ2_addAll_1 12 rfl rfl)
theorem dJ2_addAll_39 : decode cJ2_addAll 39 = .ok (.dup, 1) := dk_89 (dk_at dksJ2_addAll_1 15 rfl rfl)
theorem dJ2_addAll_40 : decode cJ2_addAll 40 = .ok (.istore 5, 2) := dk_54 5 (dk_at dksJ2_addAll_1 16 rfl rfl)
theorem dJ2_addAll_42 : decode cJ2_addAll 42 = .ok (.isub, 1) := dk_100 (dk_at dksJ2_addAll_1 18 rfl rfl)
theorem dJ2_addAll_43 : decode cJ2_addAll 43 = .ok (.if_icmp .le 13, 3) := dk_164 0 13 (dk_at dksJ2_addAll_1 19 rfl rfl)
theorem dJ2_addAll_46 : decode cJ2_addAll 46 = .ok (.aload_n 0, 1) := dk_42 (dk_at dksJ2_addAll_1 22 rfl rfl)
theorem dJ2_addAll_47 : decode cJ2_addAll 47 = .ok (.iload 5, 2) := dk_21 5 (dk_at dksJ2_addAll_2 0 rfl rfl)
theorem dJ2_addAll_49 : decode cJ2_addAll 49 = .ok (.iload_n 3, 1) := dk_29 (dk_at dksJ2_addAll_2 2 rfl rfl)
theorem dJ2_addAll_50 : decode cJ2_addAll 50 = .ok (.iadd, 1) := dk_96 (dk_at dksJ2_addAll_2 3 rfl rfl)
theorem dJ2_addAll_51 : decode cJ2_addAll 51 = .ok (.invokevirtual 69, 3) := dk_182 0 69 (dk_at dksJ2_addAll_2 4 rfl rfl)
theorem dJ2_addAll_54 : decode cJ2_addAll 54 = .ok (.astore 4, 2) := dk_58 4 (dk_at dksJ2_addAll_2 7 rfl rfl)
theorem dJ2_addAll_56 : decode cJ2_addAll 56 = .ok (.aload_n 2, 1) := dk_44 (dk_at dksJ2_addAll_2 9 rfl rfl)
theorem dJ2_addAll_57 : decode cJ2_addAll 57 = .ok (.iconst 0, 1) := dk_3 (dk_at dksJ2_addAll_2 10 rfl rfl)
theorem dJ2_addAll_58 : decode cJ2_addAll 58 = .ok (.aload 4, 2) := dk_25 4 (dk_at dksJ2_addAll_2 11 rfl rfl)
theorem dJ2_addAll_60 : decode cJ2_addAll 60 = .ok (.iload 5, 2) := dk_21 5 (dk_at dksJ2_addAll_2 13 rfl rfl)
theorem dJ2_addAll_62 : decode cJ2_addAll 62 = .ok (.iload_n 3, 1) := dk_29 (dk_at dksJ2_addAll_2 15 rfl rfl)
theorem dJ2_addAll_63 : decode cJ2_addAll 63 = .ok (.invokestatic 112, 3) := dk_184 0 112 (dk_at dksJ2_addAll_2 16 rfl rfl)
theorem dJ2_addAll_66 : decode cJ2_addAll 66 = .ok (.aload_n 0, 1) := dk_42 (dk_at dksJ2_addAll_2 19 rfl rfl)
theorem dJ2_addAll_67 : decode cJ2_addAll 67 = .ok (.iload 5, 2) := dk_21 5 (dk_at dksJ2_addAll_2 20 rfl rfl)
theorem dJ2_addAll_69 : decode cJ2_addAll 69 = .ok (.iload_n 3, 1) := dk_29 (dk_at dksJ2_addAll_2 22 rfl rfl)
theorem dJ2_addAll_70 : decode cJ2_addAll 70 = .ok (.iadd, 1) := dk_96 (dk_at dksJ2_addAll_2 23 rfl rfl)
theorem dJ2_addAll_71 : decode cJ2_addAll 71 = .ok (.putfield 48, 3) := dk_181 0 48 (dk_at dksJ2_addAll_3 0 rfl rfl)
theorem dJ2_addAll_74 : decode cJ2_addAll 74 = .ok (.iconst 1, 1) := dk_4 (dk_at dksJ2_addAll_3 3 rfl rfl)
theorem dJ2_addAll_75 : decode cJ2_addAll 75 = .ok (.ireturn, 1) := dk_172 (dk_at dksJ2_addAll_3 4 rfl rfl)
abbrev mJ2_addAll : sd_Y := (yJ2_addAll, cJ2_addAll, 6, some (.boolean), none)
def fJ2_addAll_b56 (G : sd_G) (w0 : Nat) (w2 : Nat) (w3 : Int32) (w4 : Nat) (w5 : Int32) : sd_M Int32 :=
  sd_bnd (sd_cpQ G 4 w2 0 w4 w5 w3) fun _ =>
  sd_bnd (sd_put 41 2 .int w0 (.int (w5 + w3))) fun _ =>
  sd_ret 1
set_option maxHeartbeats 4000000 in
theorem sJ2_addAll_b56 (l : Launch) (G : sd_G) (a0 : Nat) (a1 : Nat) (ρ : Int32) (h2 : sd_H) (cT : Nat × Nat) (w0 : Nat) (w2 : Nat) (w3 : Int32) (w4 : Nat) (w5 : Int32) (h : sd_H) (c : Nat × Nat) (hf : fJ2_addAll_b56 G w0 w2 w3 w4 w5 h = some (ρ, c, h2)) : sd_J mJ2_addAll ((l, G), (4, 88), [.ref a0, .ref a1], (sd_oI ρ, h2), cT) 56 [(0, .ref w0), (2, .ref w2), (3, .int w3), (4, .ref w4), (5, .int w5)] [] h c := by
  unfold fJ2_addAll_b56 at hf
  refine sj_aload_n 1 dJ2_addAll_56 rfl ?_
  refine sj_iconst (v := 0) dJ2_addAll_57 (by decide) ?_
  refine sj_aload 3 dJ2_addAll_58 rfl ?_
  refine sj_iload 4 dJ2_addAll_60 rfl ?_
  refine sj_iload_n 2 dJ2_addAll_62 rfl ?_
  refine sj_cpQ rfl q2233 (Nat.le_of_ble_eq_true rfl) (Nat.le_of_ble_eq_true rfl) hf dJ2_addAll_63 (fun h hf => ?_)
  refine sj_aload_n 0 dJ2_addAll_66 rfl ?_
  refine sj_iload 4 dJ2_addAll_67 rfl ?_
  refine sj_iload_n 2 dJ2_addAll_69 rfl ?_
  refine sj_iadd dJ2_addAll_70 ?_
  refine sj_put (fpJ2_48_41 _ _) hf dJ2_addAll_71 (fun h hf => ?_)
  refine sj_iconst (v := 1) dJ2_addAll_74 (by decide) ?_
  exact sj_zretC (o := sd_oI) (ty := .boolean) rfl hf rfl rfl rfl dJ2_addAll_75
def fJ2_addAll (G : sd_G) (a0 : Nat) (a1 : Nat) : sd_M Int32 :=
  sd_bnd (sd_isC G 41 a1) fun _ =>
  sd_bnd (fJ2_toArray G a1) fun r1 =>
  sd_bnd (sd_getI G 41 0 a0) fun v2 =>
  sd_bnd (sd_put 41 0 .int a0 (.int (v2 + 1))) fun _ =>
  sd_bnd (sd_alen G r1) fun v3 =>
  if v3 = 0 then (
    sd_ret 0)
  else (
    sd_bnd (sd_getR G 41 1 a0) fun v4 =>
    sd_bnd (sd_alen G v4) fun v5 =>
    sd_bnd (sd_getI G 41 2 a0) fun v6 =>
    if v3 ≤ (v5 - v6) then (
      fJ2_addAll_b56 G a0 r1 v3 v4 v6)
    else (
      sd_bnd (sd_isC G 41 a0) fun _ =>
      sd_bnd (fJ2_grow_2 G a0 (v6 + v3)) fun r7 =>
      fJ2_addAll_b56 G a0 r1 v3 r7 v6))
set_option maxHeartbeats 4000000 in
theorem sJ2_addAll (l : Launch) (G : sd_G) (a0 : Nat) (a1 : Nat) (h : sd_H) (ρ : Int32) (cT : Nat × Nat) (h2 : sd_H) (hf : fJ2_addAll G a0 a1 h = some (ρ, cT, h2)) : sd_Met mJ2_addAll ((l, G), (4, 88), [.ref a0, .ref a1], (sd_oI ρ, h2), cT) h := by
  refine sd_entry (plainFor_of_name rfl) rfl (Nat.le_of_ble_eq_true rfl) ?_
  show sd_J mJ2_addAll ((l, G), (4, 88), [.ref a0, .ref a1], (sd_oI ρ, h2), cT) 0 [(0, .ref a0), (1, .ref a1)] [] h cT
  unfold fJ2_addAll at hf
  refine sj_aload_n 1 dJ2_addAll_0 rfl ?_
  obtain ⟨fs1, he1, hf⟩ := sd_isC_some hf
  refine sj_cR (rest := []) (fun _ _ _ e => sj_runF (n := 0) 8 (As := []) (rest := []) (sJ2_toArray l G a1 h _ _ _ e) he1 rfl rfl rfl rfl rfl q2224 q2228 q2230 q121 q2232 (by decide +kernel) rfl rfl (fun _ z => by cases z) ⟨Nat.le_of_ble_eq_true rfl, Nat.le_of_ble_eq_true rfl⟩ rfl (Nat.le_of_ble_eq_true rfl) dJ2_addAll_1) hf (fun r1 h c hf => ?_)
  refine sj_astore_n [(2, .ref r1), (0, .ref a0), (1, .ref a1)] dJ2_addAll_6 (by decide) rfl ?_
  refine sj_aload_n 1 dJ2_addAll_7 rfl ?_
  refine sj_dup dJ2_addAll_8 rfl ?_
  refine sj_getI fdJ2_63_41 hf dJ2_addAll_9 (fun v2 hf => ?_)
  refine sj_iconst (v := 1) dJ2_addAll_12 (by decide) ?_
  refine sj_iadd dJ2_addAll_13 ?_
  refine sj_put (fpJ2_63_41 _ _) hf dJ2_addAll_14 (fun h hf => ?_)
  refine sj_aload_n 0 dJ2_addAll_17 rfl ?_
  refine sj_alen hf dJ2_addAll_18 (fun v3 hf => ?_)
  refine sj_istore_n [(3, .int v3), (2, .ref r1), (0, .ref a0), (1, .ref a1)] dJ2_addAll_19 (by decide) rfl ?_
  refine sj_iload_n 0 dJ2_addAll_20 rfl ?_
  refine sj_ifne 26 hf dJ2_addAll_21 (by decide) (fun g21 hf => ?_) (fun g21 hf => ?_)
  · refine sj_iload_n 0 dJ2_addAll_26 rfl ?_
    refine sj_aload_n 2 dJ2_addAll_27 rfl ?_
    refine sj_getR fdJ2_9_41 hf dJ2_addAll_28 (fun v4 hf => ?_)
    refine sj_dup dJ2_addAll_31 rfl ?_
    refine sj_astore [(4, .ref v4), (3, .int v3), (2, .ref r1), (0, .ref a0), (1, .ref a1)] dJ2_addAll_32 (by decide) rfl ?_
    refine sj_alen hf dJ2_addAll_34 (fun v5 hf => ?_)
    refine sj_aload_n 3 dJ2_addAll_35 rfl ?_
    refine sj_getI fdJ2_48_41 hf dJ2_addAll_36 (fun v6 hf => ?_)
    refine sj_dup dJ2_addAll_39 rfl ?_
    refine sj_istore [(5, .int v6), (4, .ref v4), (3, .int v3), (2, .ref r1), (0, .ref a0), (1, .ref a1)] dJ2_addAll_40 (by decide) rfl ?_
    refine sj_isub dJ2_addAll_42 ?_
    refine sj_icle 56 hf dJ2_addAll_43 (by decide) (fun g43 hf => ?_) (fun g43 hf => ?_)
    · exact sj_loc [4, 3, 2, 1, 0] rfl (sJ2_addAll_b56 l G a0 a1 ρ h2 cT a0 r1 v3 v4 v6 _ _ hf)
    · refine sj_aload_n 4 dJ2_addAll_46 rfl ?_
      refine sj_iload 0 dJ2_addAll_47 rfl ?_
      refine sj_iload_n 2 dJ2_addAll_49 rfl ?_
      refine sj_iadd dJ2_addAll_50 ?_
      obtain ⟨fs51, he51, hf⟩ := sd_isC_some hf
      refine sj_cR (rest := []) (fun _ _ _ e => sj_runV (n := 1) (As := [.int (v6 + v3)]) (rest := []) (sJ2_grow_2 l G a0 (v6 + v3) h _ _ _ e) he51 rfl rfl rfl rfl q349 q351 qs2 q121 q352 (by decide +kernel) rfl rfl ⟨Nat.le_of_ble_eq_true rfl, Nat.le_of_ble_eq_true rfl⟩ rfl (Nat.le_of_ble_eq_true rfl) dJ2_addAll_51) hf (fun r7 h c hf => ?_)
      refine sj_astore [(4, .ref r7), (5, .int v6), (3, .int v3), (2, .ref r1), (0, .ref a0), (1, .ref a1)] dJ2_addAll_54 (by decide) rfl ?_
      exact sj_loc [4, 3, 2, 0, 1] rfl (sJ2_addAll_b56 l G a0 a1 ρ h2 cT a0 r1 v3 r7 v6 _ _ hf)
  · refine sj_iconst (v := 0) dJ2_addAll_24 (by decide) ?_
    exact sj_zretC (o := sd_oI) (ty := .boolean) rfl hf rfl rfl rfl dJ2_addAll_25
/-! java/util/ArrayList$Itr.<init>(Ljava/util/ArrayList;)V -/
abbrev cJ31_init : ByteArray := prog_81_method_1_code
def yJ31_init : MethodName := ⟨RJ31, "<init>", "(Ljava/util/ArrayList;)V"⟩
def dkwJ31_init_1 : List UInt8 := [181, 0, 22, 177]
abbrev dktJ31_init_1 : List UInt8 := dkwJ31_init_1 ++ []
def dkwJ31_init_0 : List UInt8 := [42, 43, 181, 0, 1, 42, 183, 0, 7, 42, 2, 181, 0, 13, 42, 42, 180, 0, 1, 180, 0, 17]
abbrev dktJ31_init_0 : List UInt8 := dkwJ31_init_0 ++ dktJ31_init_1
theorem dksJ31_init_0 : cJ31_init.data.toList.drop 0 = dktJ31_init_0 := by decide +kernel
theorem dksJ31_init_1 : cJ31_init.data.toList.drop 22 = dktJ31_init_1 := dk_seg dksJ31_init_0 22 rfl rfl
theorem dJ31_init_0 : decode cJ31_init 0 = .ok (.aload_n 0, 1) := dk_42 (dk_at dksJ31_init_0 0 rfl rfl)
theorem dJ31_init_1 : decode cJ31_init 1 = .ok (.aload_n 1, 1) := dk_43 (dk_at dksJ31_init_0 1 rfl rfl)
theorem dJ31_init_2 : decode cJ31_init 2 = .ok (.putfield 1, 3) := dk_181 0 1 (dk_at dksJ31_init_0 2 rfl rfl)
theorem dJ31_init_5 : decode cJ31_init 5 = .ok (.aload_n 0, 1) := dk_42 (dk_at dksJ31_init_0 5 rfl rfl)
theorem dJ31_init_6 : decode cJ31_init 6 = .ok (.invokespecial 7, 3) := dk_183 0 7 (dk_at dksJ31_init_0 6 rfl rfl)
theorem dJ31_init_9 : decode cJ31_init 9 = .ok (.aload_n 0, 1) := dk_42 (dk_at dksJ31_init_0 9 rfl rfl)
theorem dJ31_init_10 : decode cJ31_init 10 = .ok (.iconst (-1), 1) := dk_2 (dk_at dksJ31_init_0 10 rfl rfl)
theorem dJ31_init_11 : decode cJ31_init 11 = .ok (.putfield 13, 3) := dk_181 0 13 (dk_at dksJ31_init_0 11 rfl rfl)
theorem dJ31_init_14 : decode cJ31_init 14 = .ok (.aload_n 0, 1) := dk_42 (dk_at dksJ31_init_0 14 rfl rfl)
theorem dJ31_init_15 : decode cJ31_init 15 = .ok (.aload_n 0, 1) := dk_42 (dk_at dksJ31_init_0 15 rfl rfl)
theorem dJ31_init_16 : decode cJ31_init 16 = .ok (.getfield 1, 3) := dk_180 0 1 (dk_at dksJ31_init_0 16 rfl rfl)
theorem dJ31_init_19 : decode cJ31_init 19 = .ok (.getfield 17, 3) := dk_180 0 17 (dk_at dksJ31_init_0 19 rfl rfl)
theorem dJ31_init_22 : decode cJ31_init 22 = .ok (.putfield 22, 3) := dk_181 0 22 (dk_at dksJ31_init_1 0 rfl rfl)
theorem dJ31_init_25 : decode cJ31_init 25 = .ok (.return_, 1) := dk_177 (dk_at dksJ31_init_1 3 rfl rfl)
theorem fpJ31_init_1 : sd_Fp yJ31_init 1 42 3 (.object "java/util/ArrayList") := ⟨(RJ31, TJ31, 4), "java/util/ArrayList$Itr", tyJ31, rfl, by decide, rfl, in_J31, Or.inl rfl, tyJ31_ok, nmJ31, rfl, Or.inr ⟨rfl, rfl, rfl, q2180⟩⟩
theorem fpJ31_13_42 (n d : String) : sd_Fp ⟨"java/util/ArrayList$Itr", n, d⟩ 13 42 1 .int := ⟨(RJ31, TJ31, 4), "java/util/ArrayList$Itr", tyJ31, rfl, by decide, rfl, in_J31, Or.inl rfl, tyJ31_ok, nmJ31, rfl, Or.inl ⟨rfl, Or.inl q2178⟩⟩
theorem fdJ31_1_42 : sd_Fd "java/util/ArrayList$Itr" 1 42 3 := ⟨(RJ31, TJ31, 4), "java/util/ArrayList$Itr", rfl, by decide, rfl, in_J31, Or.inl rfl, Or.inl q2180⟩
theorem fdJ31_17_41 : sd_Fd "java/util/ArrayList$Itr" 17 41 0 := ⟨(RJ2, TJ2, 3), "java/util/ArrayList", rfl, by decide, rfl, in_J2, Or.inr q232, Or.inl q231⟩
theorem fpJ31_22_42 (n d : String) : sd_Fp ⟨"java/util/ArrayList$Itr", n, d⟩ 22 42 2 .int := ⟨(RJ31, TJ31, 4), "java/util/ArrayList$Itr", tyJ31, rfl, by decide, rfl, in_J31, Or.inl rfl, tyJ31_ok, nmJ31, rfl, Or.inl ⟨rfl, Or.inl q2179⟩⟩
abbrev mJ31_init : sd_Y := (yJ31_init, cJ31_init, 2, none, none)
def fJ31_init (G : sd_G) (a0 : Nat) (a1 : Nat) : sd_M Unit :=
  sd_bnd (sd_put 42 3 (.object "java/util/ArrayList") a0 (.ref a1)) fun _ =>
  sd_bnd (sd_put 42 1 .int a0 (.int (-1))) fun _ =>
  sd_bnd (sd_getR G 42 3 a0) fun v1 =>
  sd_bnd (sd_getI G 41 0 v1) fun v2 =>
  sd_bnd (sd_put 42 2 .int a0 (.int v2)) fun _ =>
  sd_ret ()
set_option maxHeartbeats 4000000 in
theorem sJ31_init (l : Launch) (G : sd_G) (a0 : Nat) (a1 : Nat) (h : sd_H) (ρ : Unit) (cT : Nat × Nat) (h2 : sd_H) (hf : fJ31_init G a0 a1 h = some (ρ, cT, h2)) : sd_Met mJ31_init ((l, G), (1, 12), [.ref a0, .ref a1], (sd_oV ρ, h2), cT) h := by
  refine sd_entry (plainFor_of_name rfl) rfl (Nat.le_of_ble_eq_true rfl) ?_
  show sd_J mJ31_init ((l, G), (1, 12), [.ref a0, .ref a1], (sd_oV ρ, h2), cT) 0 [(0, .ref a0), (1, .ref a1)] [] h cT
  unfold fJ31_init at hf
  refine sj_aload_n 0 dJ31_init_0 rfl ?_
  refine sj_aload_n 1 dJ31_init_1 rfl ?_
  refine sj_put fpJ31_init_1 hf dJ31_init_2 (fun h hf => ?_)
  refine sj_aload_n 0 dJ31_init_5 rfl ?_
  refine sj_objInit q2176 q188 q189 (Nat.le_of_ble_eq_true rfl) (Nat.le_of_ble_eq_true rfl) dJ31_init_6 ?_
  refine sj_aload_n 0 dJ31_init_9 rfl ?_
  refine sj_iconst (v := (-1)) dJ31_init_10 (by decide) ?_
  refine sj_put (fpJ31_13_42 _ _) hf dJ31_init_11 (fun h hf => ?_)
  refine sj_aload_n 0 dJ31_init_14 rfl ?_
  refine sj_aload_n 0 dJ31_init_15 rfl ?_
  refine sj_getR fdJ31_1_42 hf dJ31_init_16 (fun v1 hf => ?_)
  refine sj_getI fdJ31_17_41 hf dJ31_init_19 (fun v2 hf => ?_)
  refine sj_put (fpJ31_22_42 _ _) hf dJ31_init_22 (fun h hf => ?_)
  exact sj_vret (o := sd_oV) hf rfl rfl rfl dJ31_init_25
/-! java/util/ArrayList.iterator()Ljava/util/Iterator; -/
abbrev cJ2_iterator : ByteArray := prog_80_method_55_code
def yJ2_iterator : MethodName := ⟨RJ2, "iterator", "()Ljava/util/Iterator;"⟩
def dkwJ2_iterator_0 : List UInt8 := [187, 1, 11, 89, 42, 183, 1, 13, 176]
abbrev dktJ2_iterator_0 : List UInt8 := dkwJ2_iterator_0 ++ []
theorem dksJ2_iterator_0 : cJ2_iterator.data.toList.drop 0 = dktJ2_iterator_0 := by decide +kernel
theorem dJ2_iterator_0 : decode cJ2_iterator 0 = .ok (.new 267, 3) := dk_187 1 11 (dk_at dksJ2_iterator_0 0 rfl rfl)
theorem dJ2_iterator_3 : decode cJ2_iterator 3 = .ok (.dup, 1) := dk_89 (dk_at dksJ2_iterator_0 3 rfl rfl)
theorem dJ2_iterator_4 : decode cJ2_iterator 4 = .ok (.aload_n 0, 1) := dk_42 (dk_at dksJ2_iterator_0 4 rfl rfl)
theorem dJ2_iterator_5 : decode cJ2_iterator 5 = .ok (.invokespecial 269, 3) := dk_183 1 13 (dk_at dksJ2_iterator_0 5 rfl rfl)
theorem dJ2_iterator_8 : decode cJ2_iterator 8 = .ok (.areturn, 1) := dk_176 (dk_at dksJ2_iterator_0 8 rfl rfl)
theorem fnJ2_267 : sd_Fn "java/util/ArrayList" 267 42 4 [.int 0, .int 0, .int 0, .null] := ⟨(RJ31, TJ31, 4), tyJ31, rfl, rfl, in_J31, q2171, q2172, q181, tyJ31_ok, fun j hj => by revert j; decide⟩
abbrev mJ2_iterator : sd_Y := (yJ2_iterator, cJ2_iterator, 1, some (.object "java/util/Iterator"), none)
def fJ2_iterator (G : sd_G) (a0 : Nat) : sd_M Nat :=
  sd_bnd (sd_new 42 4 [.int 0, .int 0, .int 0, .null]) fun o1 =>
  sd_bnd (fJ31_init G o1 a0) fun _ =>
  sd_ret o1
set_option maxHeartbeats 4000000 in
theorem sJ2_iterator (l : Launch) (G : sd_G) (a0 : Nat) (h : sd_H) (ρ : Nat) (cT : Nat × Nat) (h2 : sd_H) (hf : fJ2_iterator G a0 h = some (ρ, cT, h2)) : sd_Met mJ2_iterator ((l, G), (2, 33), [.ref a0], (sd_oR ρ, h2), cT) h := by
  refine sd_entry (plainFor_of_name rfl) rfl (Nat.le_of_ble_eq_true rfl) ?_
  show sd_J mJ2_iterator ((l, G), (2, 33), [.ref a0], (sd_oR ρ, h2), cT) 0 [(0, .ref a0)] [] h cT
  unfold fJ2_iterator at hf
  refine sj_new fnJ2_267 hf dJ2_iterator_0 (fun o1 h c hf => ?_)
  refine sj_dup dJ2_iterator_3 rfl ?_
  refine sj_aload_n 0 dJ2_iterator_4 rfl ?_
  refine sj_cV (rest := [.ref o1]) (fun _ _ _ e => sj_runI (n := 1) (a := o1) (As := [.ref a0]) (rest := [.ref o1]) (sJ31_init l G o1 a0 h _ _ _ e) rfl rfl q2173 q2174 q181 q2175 rfl (by decide +kernel) rfl rfl (fun _ z => by cases z) ⟨Nat.le_of_ble_eq_true rfl, Nat.le_of_ble_eq_true rfl⟩ rfl (Nat.le_of_ble_eq_true rfl) dJ2_iterator_5) hf (fun h c hf => ?_)
  exact sj_aret (o := sd_oR) hf rfl rfl rfl (Or.inl ⟨_, rfl⟩) dJ2_iterator_8
/-! java/util/ArrayList$Itr.hasNext()Z -/
abbrev cJ31_hasNext : ByteArray := prog_81_method_2_code
def yJ31_hasNext : MethodName := ⟨RJ31, "hasNext", "()Z"⟩
def dkwJ31_hasNext_0 : List UInt8 := [42, 180, 0, 25, 42, 180, 0, 1, 180, 0, 28, 159, 0, 7, 4, 167, 0, 4, 3, 172]
abbrev dktJ31_hasNext_0 : List UInt8 := dkwJ31_hasNext_0 ++ []
theorem dksJ31_hasNext_0 : cJ31_hasNext.data.toList.drop 0 = dktJ31_hasNext_0 := by decide +kernel
theorem dJ31_hasNext_0 : decode cJ31_hasNext 0 = .ok (.aload_n 0, 1) := dk_42 (dk_at dksJ31_hasNext_0 0 rfl rfl)
theorem dJ31_hasNext_1 : decode cJ31_hasNext 1 = .ok (.getfield 25, 3) := dk_180 0 25 (dk_at dksJ31_hasNext_0 1 rfl rfl)
theorem dJ31_hasNext_4 : decode cJ31_hasNext 4 = .ok (.aload_n 0, 1) := dk_42 (dk_at dksJ31_hasNext_0 4 rfl rfl)
theorem dJ31_hasNext_5 : decode cJ31_hasNext 5 = .ok (.getfield 1, 3) := dk_180 0 1 (dk_at dksJ31_hasNext_0 5 rfl rfl)
theorem dJ31_hasNext_8 : decode cJ31_hasNext 8 = .ok (.getfield 28, 3) := dk_180 0 28 (dk_at dksJ31_hasNext_0 8 rfl rfl)
theorem dJ31_hasNext_11 : decode cJ31_hasNext 11 = .ok (.if_icmp .eq 7, 3) := dk_159 0 7 (dk_at dksJ31_hasNext_0 11 rfl rfl)
theorem dJ31_hasNext_14 : decode cJ31_hasNext 14 = .ok (.iconst 1, 1) := dk_4 (dk_at dksJ31_hasNext_0 14 rfl rfl)
theorem dJ31_hasNext_15 : decode cJ31_hasNext 15 = .ok (.goto 4, 3) := dk_167 0 4 (dk_at dksJ31_hasNext_0 15 rfl rfl)
theorem dJ31_hasNext_18 : decode cJ31_hasNext 18 = .ok (.iconst 0, 1) := dk_3 (dk_at dksJ31_hasNext_0 18 rfl rfl)
theorem dJ31_hasNext_19 : decode cJ31_hasNext 19 = .ok (.ireturn, 1) := dk_172 (dk_at dksJ31_hasNext_0 19 rfl rfl)
theorem fdJ31_25_42 : sd_Fd "java/util/ArrayList$Itr" 25 42 0 := ⟨(RJ31, TJ31, 4), "java/util/ArrayList$Itr", rfl, by decide, rfl, in_J31, Or.inl rfl, Or.inl q2177⟩
theorem fdJ31_28_41 : sd_Fd "java/util/ArrayList$Itr" 28 41 2 := ⟨(RJ2, TJ2, 3), "java/util/ArrayList", rfl, by decide, rfl, in_J2, Or.inl rfl, Or.inr ⟨_, q228⟩⟩
abbrev mJ31_hasNext : sd_Y := (yJ31_hasNext, cJ31_hasNext, 1, some (.boolean), none)
def fJ31_hasNext (G : sd_G) (a0 : Nat) : sd_M Int32 :=
  sd_bnd (sd_getI G 42 0 a0) fun v1 =>
  sd_bnd (sd_getR G 42 3 a0) fun v2 =>
  sd_bnd (sd_getI G 41 2 v2) fun v3 =>
  if v1 = v3 then (
    sd_ret 0)
  else (
    sd_ret 1)
set_option maxHeartbeats 4000000 in
theorem sJ31_hasNext (l : Launch) (G : sd_G) (a0 : Nat) (h : sd_H) (ρ : Int32) (cT : Nat × Nat) (h2 : sd_H) (hf : fJ31_hasNext G a0 h = some (ρ, cT, h2)) : sd_Met mJ31_hasNext ((l, G), (0, 0), [.ref a0], (sd_oI ρ, h2), cT) h := by
  refine sd_entry (plainFor_of_name rfl) rfl (Nat.le_of_ble_eq_true rfl) ?_
  show sd_J mJ31_hasNext ((l, G), (0, 0), [.ref a0], (sd_oI ρ, h2), cT) 0 [(0, .ref a0)] [] h cT
  unfold fJ31_hasNext at hf
  refine sj_aload_n 0 dJ31_hasNext_0 rfl ?_
  refine sj_getI fdJ31_25_42 hf dJ31_hasNext_1 (fun v1 hf => ?_)
  refine sj_aload_n 0 dJ31_hasNext_4 rfl ?_
  refine sj_getR fdJ31_1_42 hf dJ31_hasNext_5 (fun v2 hf => ?_)
  refine sj_getI fdJ31_28_41 hf dJ31_hasNext_8 (fun v3 hf => ?_)
  refine sj_iceq 18 hf dJ31_hasNext_11 (by decide) (fun g11 hf => ?_) (fun g11 hf => ?_)
  · refine sj_iconst (v := 0) dJ31_hasNext_18 (by decide) ?_
    exact sj_zretC (o := sd_oI) (ty := .boolean) rfl hf rfl rfl rfl dJ31_hasNext_19
  · refine sj_iconst (v := 1) dJ31_hasNext_14 (by decide) ?_
    refine sj_goto 19 dJ31_hasNext_15 (by decide) ?_
    exact sj_zretC (o := sd_oI) (ty := .boolean) rfl hf rfl rfl rfl dJ31_hasNext_19
/-! java/util/ArrayList$Itr.checkForComodification()V -/
abbrev cJ31_checkForComodification : ByteArray := prog_81_method_6_code
def yJ31_checkForComodification : MethodName := ⟨RJ31, "checkForComodification", "()V"⟩
def dkwJ31_checkForComodification_0 : List UInt8 := [42, 180, 0, 1, 180, 0, 17, 42, 180, 0, 22, 159, 0, 11, 187, 0, 41, 89, 183, 0, 43, 191, 177]
abbrev dktJ31_checkForComodification_0 : List UInt8 := dkwJ31_checkForComodification_0 ++ []
theorem dksJ31_checkForComodification_0 : cJ31_checkForComodification.data.toList.drop 0 = dktJ31_checkForComodification_0 := by decide +kernel
theorem dJ31_checkForComodification_0 : decode cJ31_checkForComodification 0 = .ok (.aload_n 0, 1) := dk_42 (dk_at dksJ31_checkForComodification_0 0 rfl rfl)
theorem dJ31_checkForComodification_1 : decode cJ31_checkForComodification 1 = .ok (.getfield 1, 3) := dk_180 0 1 (dk_at dksJ31_checkForComodification_0 1 rfl rfl)
theorem dJ31_checkForComodification_4 : decode cJ31_checkForComodification 4 = .ok (.getfield 17, 3) := dk_180 0 17 (dk_at dksJ31_checkForComodification_0 4 rfl rfl)
theorem dJ31_checkForComodification_7 : decode cJ31_checkForComodification 7 = .ok (.aload_n 0, 1) := dk_42 (dk_at dksJ31_checkForComodification_0 7 rfl rfl)
theorem dJ31_checkForComodification_8 : decode cJ31_checkForComodification 8 = .ok (.getfield 22, 3) := dk_180 0 22 (dk_at dksJ31_checkForComodification_0 8 rfl rfl)
theorem dJ31_checkForComodification_11 : decode cJ31_checkForComodification 11 = .ok (.if_icmp .eq 11, 3) := dk_159 0 11 (dk_at dksJ31_checkForComodification_0 11 rfl rfl)
theorem dJ31_checkForComodification_14 : decode cJ31_checkForComodification 14 = .ok (.new 41, 3) := dk_187 0 41 (dk_at dksJ31_checkForComodification_0 14 rfl rfl)
theorem dJ31_checkForComodification_17 : decode cJ31_checkForComodification 17 = .ok (.dup, 1) := dk_89 (dk_at dksJ31_checkForComodification_0 17 rfl rfl)
theorem dJ31_checkForComodification_18 : decode cJ31_checkForComodification 18 = .ok (.invokespecial 43, 3) := dk_183 0 43 (dk_at dksJ31_checkForComodification_0 18 rfl rfl)
theorem dJ31_checkForComodification_21 : decode cJ31_checkForComodification 21 = .ok (.athrow, 1) := dk_191 (dk_at dksJ31_checkForComodification_0 21 rfl rfl)
theorem dJ31_checkForComodification_22 : decode cJ31_checkForComodification 22 = .ok (.return_, 1) := dk_177 (dk_at dksJ31_checkForComodification_0 22 rfl rfl)
theorem fdJ31_22_42 : sd_Fd "java/util/ArrayList$Itr" 22 42 2 := ⟨(RJ31, TJ31, 4), "java/util/ArrayList$Itr", rfl, by decide, rfl, in_J31, Or.inl rfl, Or.inl q2179⟩
abbrev mJ31_checkForComodification : sd_Y := (yJ31_checkForComodification, cJ31_checkForComodification, 1, none, none)
def fJ31_checkForComodification (G : sd_G) (a0 : Nat) : sd_M Unit :=
  sd_bnd (sd_getR G 42 3 a0) fun v1 =>
  sd_bnd (sd_getI G 41 0 v1) fun v2 =>
  sd_bnd (sd_getI G 42 2 a0) fun v3 =>
  if v2 = v3 then (
    sd_ret ())
  else (
    sd_fail)
set_option maxHeartbeats 4000000 in
theorem sJ31_checkForComodification (l : Launch) (G : sd_G) (a0 : Nat) (h : sd_H) (ρ : Unit) (cT : Nat × Nat) (h2 : sd_H) (hf : fJ31_checkForComodification G a0 h = some (ρ, cT, h2)) : sd_Met mJ31_checkForComodification ((l, G), (0, 0), [.ref a0], (sd_oV ρ, h2), cT) h := by
  refine sd_entry (plainFor_of_name rfl) rfl (Nat.le_of_ble_eq_true rfl) ?_
  show sd_J mJ31_checkForComodification ((l, G), (0, 0), [.ref a0], (sd_oV ρ, h2), cT) 0 [(0, .ref a0)] [] h cT
  unfold fJ31_checkForComodification at hf
  refine sj_aload_n 0 dJ31_checkForComodification_0 rfl ?_
  refine sj_getR fdJ31_1_42 hf dJ31_checkForComodification_1 (fun v1 hf => ?_)
  refine sj_getI fdJ31_17_41 hf dJ31_checkForComodification_4 (fun v2 hf => ?_)
  refine sj_aload_n 0 dJ31_checkForComodification_7 rfl ?_
  refine sj_getI fdJ31_22_42 hf dJ31_checkForComodification_8 (fun v3 hf => ?_)
  refine sj_iceq 22 hf dJ31_checkForComodification_11 (by decide) (fun g11 hf => ?_) (fun g11 hf => ?_)
  · exact sj_vret (o := sd_oV) hf rfl rfl rfl dJ31_checkForComodification_22
  · cases hf
/-! java/util/ArrayList$Itr.next()Ljava/lang/Object; -/
abbrev cJ31_next : ByteArray := prog_81_method_3_code
def yJ31_next : MethodName := ⟨RJ31, "next", "()Ljava/lang/Object;"⟩
def dkwJ31_next_2 : List UInt8 := [183, 0, 43, 191, 42, 27, 4, 96, 181, 0, 25, 44, 42, 27, 90, 181, 0, 13, 50, 176]
abbrev dktJ31_next_2 : List UInt8 := dkwJ31_next_2 ++ []
def dkwJ31_next_1 : List UInt8 := [183, 0, 36, 191, 42, 180, 0, 1, 180, 0, 37, 77, 27, 44, 190, 161, 0, 11, 187, 0, 41, 89]
abbrev dktJ31_next_1 : List UInt8 := dkwJ31_next_1 ++ dktJ31_next_2
def dkwJ31_next_0 : List UInt8 := [42, 182, 0, 31, 42, 180, 0, 25, 60, 27, 42, 180, 0, 1, 180, 0, 28, 161, 0, 11, 187, 0, 34, 89]
abbrev dktJ31_next_0 : List UInt8 := dkwJ31_next_0 ++ dktJ31_next_1
theorem dksJ31_next_0 : cJ31_next.data.toList.drop 0 = dktJ31_next_0 := by decide +kernel
theorem dksJ31_next_1 : cJ31_next.data.toList.drop 24 = dktJ31_next_1 := dk_seg dksJ31_next_0 24 rfl rfl
theorem dksJ31_next_2 : cJ31_next.data.toList.drop 46 = dktJ31_next_2 := dk_seg dksJ31_next_1 22 rfl rfl
theorem dJ31_next_0 : decode cJ31_next 0 = .ok (.aload_n 0, 1) := dk_42 (dk_at dksJ31_next_0 0 rfl rfl)
theorem dJ31_next_1 : decode cJ31_next 1 = .ok (.invokevirtual 31, 3) := dk_182 0 31 (dk_at dksJ31_next_0 1 rfl rfl)
theorem dJ31_next_4 : decode cJ31_next 4 = .ok (.aload_n 0, 1) := dk_42 (dk_at dksJ31_next_0 4 rfl rfl)
theorem dJ31_next_5 : decode cJ31_next 5 = .ok (.getfield 25, 3) := dk_180 0 25 (dk_at dksJ31_next_0 5 rfl rfl)
theorem dJ31_next_8 : decode cJ31_next 8 = .ok (.istore_n 1, 1) := dk_60 (dk_at dksJ31_next_0 8 rfl rfl)
theorem dJ31_next_9 : decode cJ31_next 9 = .ok (.iload_n 1, 1) := dk_27 (dk_at dksJ31_next_0 9 rfl rfl)
theorem dJ31_next_10 : decode cJ31_next 10 = .ok (.aload_n 0, 1) := dk_42 (dk_at dksJ31_next_0 10 rfl rfl)
theorem dJ31_next_11 : decode cJ31_next 11 = .ok (.getfield 1, 3) := dk_180 0 1 (dk_at dksJ31_next_0 11 rfl rfl)
theorem dJ31_next_14 : decode cJ31_next 14 = .ok (.getfield 28, 3) := dk_180 0 28 (dk_at dksJ31_next_0 14 rfl rfl)
theorem dJ31_next_17 : decode cJ31_next 17 = .ok (.if_icmp .lt 11, 3) := dk_161 0 11 (dk_at dksJ31_next_0 17 rfl rfl)
theorem dJ31_next_20 : decode cJ31_next 20 = .ok (.new 34, 3) := dk_187 0 34 (dk_at dksJ31_next_0 20 rfl rfl)
theorem dJ31_next_23 : decode cJ31_next 23 = .ok (.dup, 1) := dk_89 (dk_at dksJ31_next_0 23 rfl rfl)
theorem dJ31_next_24 : decode cJ31_next 24 = .ok (.invokespecial 36, 3) := dk_183 0 36 (dk_at dksJ31_next_1 0 rfl rfl)
theorem dJ31_next_27 : decode cJ31_next 27 = .ok (.athrow, 1) := dk_191 (dk_at dksJ31_next_1 3 rfl rfl)
theorem dJ31_next_28 : decode cJ31_next 28 = .ok (.aload_n 0, 1) := dk_42 (dk_at dksJ31_next_1 4 rfl rfl)
theorem dJ31_next_29 : decode cJ31_next 29 = .ok (.getfield 1, 3) := dk_180 0 1 (dk_at dksJ31_next_1 5 rfl rfl)
theorem dJ31_next_32 : decode cJ31_next 32 = .ok (.getfield 37, 3) := dk_180 0 37 (dk_at dksJ31_next_1 8 rfl rfl)
theorem dJ31_next_35 : decode cJ31_next 35 = .ok (.astore_n 2, 1) := dk_77 (dk_at dksJ31_next_1 11 rfl rfl)
theorem dJ31_next_36 : decode cJ31_next 36 = .ok (.iload_n 1, 1) := dk_27 (dk_at dksJ31_next_1 12 rfl rfl)
theorem dJ31_next_37 : decode cJ31_next 37 = .ok (.aload_n 2, 1) := dk_44 (dk_at dksJ31_next_1 13 rfl rfl)
theorem dJ31_next_38 : decode cJ31_next 38 = .ok (.arraylength, 1) := dk_190 (dk_at dksJ31_next_1 14 rfl rfl)
theorem dJ31_next_39 : decode cJ31_next 39 = .ok (.if_icmp .lt 11, 3) := dk_161 0 11 (dk_at dksJ31_next_1 15 rfl rfl)
theorem dJ31_next_42 : decode cJ31_next 42 = .ok (.new 41, 3) := dk_187 0 41 (dk_at dksJ31_next_1 18 rfl rfl)
theorem dJ31_next_45 : decode cJ31_next 45 = .ok (.dup, 1) := dk_89 (dk_at dksJ31_next_1 21 rfl rfl)
theorem dJ31_next_46 : decode cJ31_next 46 = .ok (.invokespecial 43, 3) := dk_183 0 43 (dk_at dksJ31_next_2 0 rfl rfl)
theorem dJ31_next_49 : decode cJ31_next 49 = .ok (.athrow, 1) := dk_191 (dk_at dksJ31_next_2 3 rfl rfl)
theorem dJ31_next_50 : decode cJ31_next 50 = .ok (.aload_n 0, 1) := dk_42 (dk_at dksJ31_next_2 4 rfl rfl)
theorem dJ31_next_51 : decode cJ31_next 51 = .ok (.iload_n 1, 1) := dk_27 (dk_at dksJ31_next_2 5 rfl rfl)
theorem dJ31_next_52 : decode cJ31_next 52 = .ok (.iconst 1, 1) := dk_4 (dk_at dksJ31_next_2 6 rfl rfl)
theorem dJ31_next_53 : decode cJ31_next 53 = .ok (.iadd, 1) := dk_96 (dk_at dksJ31_next_2 7 rfl rfl)
theorem dJ31_next_54 : decode cJ31_next 54 = .ok (.putfield 25, 3) := dk_181 0 25 (dk_at dksJ31_next_2 8 rfl rfl)
theorem dJ31_next_57 : decode cJ31_next 57 = .ok (.aload_n 2, 1) := dk_44 (dk_at dksJ31_next_2 11 rfl rfl)
theorem dJ31_next_58 : decode cJ31_next 58 = .ok (.aload_n 0, 1) := dk_42 (dk_at dksJ31_next_2 12 rfl rfl)
theorem dJ31_next_59 : decode cJ31_next 59 = .ok (.iload_n 1, 1) := dk_27 (dk_at dksJ31_next_2 13 rfl rfl)
theorem dJ31_next_60 : decode cJ31_next 60 = .ok (.dup_x1, 1) := dk_90 (dk_at dksJ31_next_2 14 rfl rfl)
theorem dJ31_next_61 : decode cJ31_next 61 = .ok (.putfield 13, 3) := dk_181 0 13 (dk_at dksJ31_next_2 15 rfl rfl)
theorem dJ31_next_64 : decode cJ31_next 64 = .ok (.aaload, 1) := dk_50 (dk_at dksJ31_next_2 18 rfl rfl)
theorem dJ31_next_65 : decode cJ31_next 65 = .ok (.areturn, 1) := dk_176 (dk_at dksJ31_next_2 19 rfl rfl)
theorem fdJ31_37_41 : sd_Fd "java/util/ArrayList$Itr" 37 41 1 := ⟨(RJ2, TJ2, 3), "java/util/ArrayList", rfl, by decide, rfl, in_J2, Or.inl rfl, Or.inl q227⟩
theorem fpJ31_25_42 (n d : String) : sd_Fp ⟨"java/util/ArrayList$Itr", n, d⟩ 25 42 0 .int := ⟨(RJ31, TJ31, 4), "java/util/ArrayList$Itr", tyJ31, rfl, by decide, rfl, in_J31, Or.inl rfl, tyJ31_ok, nmJ31, rfl, Or.inl ⟨rfl, Or.inl q2177⟩⟩
abbrev mJ31_next : sd_Y := (yJ31_next, cJ31_next, 3, some (.object "java/lang/Object"), none)
def fJ31_next (G : sd_G) (a0 : Nat) : sd_M Nat :=
  sd_bnd (sd_isC G 42 a0) fun _ =>
  sd_bnd (fJ31_checkForComodification G a0) fun _ =>
  sd_bnd (sd_getI G 42 0 a0) fun v1 =>
  sd_bnd (sd_getR G 42 3 a0) fun v2 =>
  sd_bnd (sd_getI G 41 2 v2) fun v3 =>
  if v1 < v3 then (
    sd_bnd (sd_getR G 42 3 a0) fun v4 =>
    sd_bnd (sd_getR G 41 1 v4) fun v5 =>
    sd_bnd (sd_alen G v5) fun v6 =>
    if v1 < v6 then (
      sd_bnd (sd_put 42 0 .int a0 (.int (v1 + 1))) fun _ =>
      sd_bnd (sd_put 42 1 .int a0 (.int v1)) fun _ =>
      sd_bnd (sd_aldR G 4 v5 v1) fun v7 =>
      sd_ret v7)
    else (
      sd_fail))
  else (
    sd_fail)
set_option maxHeartbeats 4000000 in
theorem sJ31_next (l : Launch) (G : sd_G) (a0 : Nat) (h : sd_H) (ρ : Nat) (cT : Nat × Nat) (h2 : sd_H) (hf : fJ31_next G a0 h = some (ρ, cT, h2)) : sd_Met mJ31_next ((l, G), (1, 20), [.ref a0], (sd_oR ρ, h2), cT) h := by
  refine sd_entry (plainFor_of_name rfl) rfl (Nat.le_of_ble_eq_true rfl) ?_
  show sd_J mJ31_next ((l, G), (1, 20), [.ref a0], (sd_oR ρ, h2), cT) 0 [(0, .ref a0)] [] h cT
  unfold fJ31_next at hf
  refine sj_aload_n 0 dJ31_next_0 rfl ?_
  obtain ⟨fs1, he1, hf⟩ := sd_isC_some hf
  refine sj_cV (rest := []) (fun _ _ _ e => sj_runV (n := 0) (As := []) (rest := []) (sJ31_checkForComodification l G a0 h _ _ _ e) he1 rfl rfl rfl rfl q2209 q2210 q2211 q181 q2212 (by decide +kernel) rfl rfl ⟨Nat.le_of_ble_eq_true rfl, Nat.le_of_ble_eq_true rfl⟩ rfl (Nat.le_of_ble_eq_true rfl) dJ31_next_1) hf (fun h c hf => ?_)
  refine sj_aload_n 0 dJ31_next_4 rfl ?_
  refine sj_getI fdJ31_25_42 hf dJ31_next_5 (fun v1 hf => ?_)
  refine sj_istore_n [(1, .int v1), (0, .ref a0)] dJ31_next_8 (by decide) rfl ?_
  refine sj_iload_n 0 dJ31_next_9 rfl ?_
  refine sj_aload_n 1 dJ31_next_10 rfl ?_
  refine sj_getR fdJ31_1_42 hf dJ31_next_11 (fun v2 hf => ?_)
  refine sj_getI fdJ31_28_41 hf dJ31_next_14 (fun v3 hf => ?_)
  refine sj_iclt 28 hf dJ31_next_17 (by decide) (fun g17 hf => ?_) (fun g17 hf => ?_)
  · refine sj_aload_n 1 dJ31_next_28 rfl ?_
    refine sj_getR fdJ31_1_42 hf dJ31_next_29 (fun v4 hf => ?_)
    refine sj_getR fdJ31_37_41 hf dJ31_next_32 (fun v5 hf => ?_)
    refine sj_astore_n [(2, .ref v5), (1, .int v1), (0, .ref a0)] dJ31_next_35 (by decide) rfl ?_
    refine sj_iload_n 1 dJ31_next_36 rfl ?_
    refine sj_aload_n 0 dJ31_next_37 rfl ?_
    refine sj_alen hf dJ31_next_38 (fun v6 hf => ?_)
    refine sj_iclt 50 hf dJ31_next_39 (by decide) (fun g39 hf => ?_) (fun g39 hf => ?_)
    · refine sj_aload_n 2 dJ31_next_50 rfl ?_
      refine sj_iload_n 1 dJ31_next_51 rfl ?_
      refine sj_iconst (v := 1) dJ31_next_52 (by decide) ?_
      refine sj_iadd dJ31_next_53 ?_
      refine sj_put (fpJ31_25_42 _ _) hf dJ31_next_54 (fun h hf => ?_)
      refine sj_aload_n 0 dJ31_next_57 rfl ?_
      refine sj_aload_n 2 dJ31_next_58 rfl ?_
      refine sj_iload_n 1 dJ31_next_59 rfl ?_
      refine sj_dup_x1 dJ31_next_60 rfl rfl ?_
      refine sj_put (fpJ31_13_42 _ _) hf dJ31_next_61 (fun h hf => ?_)
      refine sj_aald rfl rfl hf dJ31_next_64 (fun v7 hf => ?_)
      exact sj_aret (o := sd_oR) hf rfl rfl rfl (Or.inl ⟨_, rfl⟩) dJ31_next_65
    · cases hf
  · cases hf
