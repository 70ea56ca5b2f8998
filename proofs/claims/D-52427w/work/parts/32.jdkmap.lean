set_option maxRecDepth 100000
theorem q148 : (Jvm.Cond.initialized "java/util/AbstractMap") ∈ lw_all := lw_g (lw_at lw_m1 33 rfl) rfl
theorem q149 : (Jvm.Cond.initialized "java/util/HashMap") ∈ lw_all := lw_g (lw_at lw_m1 34 rfl) rfl
theorem q157 : (Jvm.Cond.initialized "java/util/HashMap$Node") ∈ lw_all := lw_g (lw_at lw_m1 42 rfl) rfl
theorem q834 : (Jvm.Cond.fieldLink "java/lang/String" (19 : Nat) "java/lang/String" "hash" "I") ∈ lw_all := lw_g (lw_at lw_m3 239 rfl) rfl
theorem q835 : (Jvm.Cond.fieldLink "java/lang/String" (23 : Nat) "java/lang/String" "hashIsZero" "Z") ∈ lw_all := lw_g (lw_at lw_m4 0 rfl) rfl
theorem q852 : (Jvm.Cond.instanceMethod ({ cls := "java/lang/String", name := "equals", desc := "(Ljava/lang/Object;)Z" } : Jvm.MethodName)) ∈ lw_all := lw_g (lw_at lw_m4 17 rfl) rfl
theorem q931 : (Jvm.Cond.code ({ cls := "java/util/HashMap", name := "<init>", desc := "()V" } : Jvm.MethodName) prog_84_method_7_code (1 : Nat) (Option.none : Option Jvm.ClassFile.FieldType)) ∈ lw_all := lw_g (lw_at lw_m4 96 rfl) rfl
theorem q932 : (Jvm.Cond.methodLink "java/util/HashMap" (43 : Nat) ({ cls := "java/util/AbstractMap", name := "<init>", desc := "()V" } : Jvm.MethodName)) ∈ lw_all := lw_g (lw_at lw_m4 97 rfl) rfl
theorem q933 : (Jvm.Cond.instanceMethod ({ cls := "java/util/AbstractMap", name := "<init>", desc := "()V" } : Jvm.MethodName)) ∈ lw_all := lw_g (lw_at lw_m4 98 rfl) rfl
theorem q934 : (Jvm.Cond.code ({ cls := "java/util/AbstractMap", name := "<init>", desc := "()V" } : Jvm.MethodName) prog_79_method_1_code (1 : Nat) (Option.none : Option Jvm.ClassFile.FieldType)) ∈ lw_all := lw_g (lw_at lw_m4 99 rfl) rfl
theorem q935 : (Jvm.Cond.methodLink "java/util/AbstractMap" (1 : Nat) ({ cls := "java/lang/Object", name := "<init>", desc := "()V" } : Jvm.MethodName)) ∈ lw_all := lw_g (lw_at lw_m4 100 rfl) rfl
theorem q936 : (Jvm.Cond.constantFloat "java/util/HashMap" (92 : Nat) (1061158912 : UInt32)) ∈ lw_all := lw_g (lw_at lw_m4 101 rfl) rfl
theorem q937 : (Jvm.Cond.fieldLink "java/util/HashMap" (105 : Nat) "java/util/HashMap" "table" "[Ljava/util/HashMap$Node;") ∈ lw_all := lw_g (lw_at lw_m4 102 rfl) rfl
theorem q938 : (Jvm.Cond.fieldLink "java/util/HashMap" (156 : Nat) "java/util/HashMap" "size" "I") ∈ lw_all := lw_g (lw_at lw_m4 103 rfl) rfl
theorem q939 : (Jvm.Cond.fieldLink "java/util/HashMap" (202 : Nat) "java/util/HashMap" "modCount" "I") ∈ lw_all := lw_g (lw_at lw_m4 104 rfl) rfl
theorem q940 : (Jvm.Cond.fieldLink "java/util/HashMap" (88 : Nat) "java/util/HashMap" "threshold" "I") ∈ lw_all := lw_g (lw_at lw_m4 105 rfl) rfl
theorem q941 : (Jvm.Cond.fieldLink "java/util/HashMap" (81 : Nat) "java/util/HashMap" "loadFactor" "F") ∈ lw_all := lw_g (lw_at lw_m4 106 rfl) rfl
theorem q1109 : (Jvm.Cond.code ({ cls := "java/util/HashMap", name := "containsKey", desc := "(Ljava/lang/Object;)Z" } : Jvm.MethodName) prog_84_method_14_code (2 : Nat) (Option.some Jvm.ClassFile.FieldType.boolean)) ∈ lw_all := lw_g (lw_at lw_m5 34 rfl) rfl
theorem q1110 : (Jvm.Cond.methodLink "java/util/HashMap" (158 : Nat) ({ cls := "java/util/HashMap", name := "getNode", desc := "(Ljava/lang/Object;)Ljava/util/HashMap$Node;" } : Jvm.MethodName)) ∈ lw_all := lw_g (lw_at lw_m5 35 rfl) rfl
theorem q1111 : (Jvm.Cond.instanceMethod ({ cls := "java/util/HashMap", name := "getNode", desc := "(Ljava/lang/Object;)Ljava/util/HashMap$Node;" } : Jvm.MethodName)) ∈ lw_all := lw_g (lw_at lw_m5 36 rfl) rfl
theorem q1112 : (Jvm.Cond.selects "java/util/HashMap" ({ cls := "java/util/HashMap", name := "getNode", desc := "(Ljava/lang/Object;)Ljava/util/HashMap$Node;" } : Jvm.MethodName) ({ cls := "java/util/HashMap", name := "getNode", desc := "(Ljava/lang/Object;)Ljava/util/HashMap$Node;" } : Jvm.MethodName)) ∈ lw_all := lw_g (lw_at lw_m5 37 rfl) rfl
theorem q1113 : (Jvm.Cond.code ({ cls := "java/util/HashMap", name := "getNode", desc := "(Ljava/lang/Object;)Ljava/util/HashMap$Node;" } : Jvm.MethodName) prog_84_method_13_code (8 : Nat) (Option.some (Jvm.ClassFile.FieldType.object "java/util/HashMap$Node"))) ∈ lw_all := lw_g (lw_at lw_m5 38 rfl) rfl
theorem q1114 : (Jvm.Cond.methodLink "java/util/HashMap" (149 : Nat) ({ cls := "java/util/HashMap", name := "hash", desc := "(Ljava/lang/Object;)I" } : Jvm.MethodName)) ∈ lw_all := lw_g (lw_at lw_m5 39 rfl) rfl
theorem q1115 : (Jvm.Cond.static ({ cls := "java/util/HashMap", name := "hash", desc := "(Ljava/lang/Object;)I" } : Jvm.MethodName)) ∈ lw_all := lw_g (lw_at lw_m5 40 rfl) rfl
theorem q1116 : (Jvm.Cond.code ({ cls := "java/util/HashMap", name := "hash", desc := "(Ljava/lang/Object;)I" } : Jvm.MethodName) prog_84_method_1_code (2 : Nat) (Option.some Jvm.ClassFile.FieldType.int)) ∈ lw_all := lw_g (lw_at lw_m5 41 rfl) rfl
theorem q1117 : (Jvm.Cond.declares ({ cls := "java/lang/Object", name := "hashCode", desc := "()I" } : Jvm.MethodName)) ∈ lw_tbl := lw_at lw_m5 42 rfl
theorem q1118 : (Jvm.Cond.methodLink "java/util/HashMap" (1 : Nat) ({ cls := "java/lang/Object", name := "hashCode", desc := "()I" } : Jvm.MethodName)) ∈ lw_all := lw_g (lw_at lw_m5 43 rfl) rfl
theorem q1120 : (Jvm.Cond.sameMethod "java/lang/Object" "java/lang/Object" "hashCode" "()I") ∈ lw_all := lw_g (lw_at lw_m5 45 rfl) rfl
theorem q1177 : (Jvm.Cond.selects "java/lang/String" ({ cls := "java/lang/Object", name := "hashCode", desc := "()I" } : Jvm.MethodName) ({ cls := "java/lang/String", name := "hashCode", desc := "()I" } : Jvm.MethodName)) ∈ lw_all := lw_g (lw_at lw_m5 102 rfl) rfl
theorem q1178 : (Jvm.Cond.instanceMethod ({ cls := "java/lang/String", name := "hashCode", desc := "()I" } : Jvm.MethodName)) ∈ lw_all := lw_g (lw_at lw_m5 103 rfl) rfl
theorem q1179 : (Jvm.Cond.code ({ cls := "java/lang/String", name := "hashCode", desc := "()I" } : Jvm.MethodName) prog_68_method_78_code (2 : Nat) (Option.some Jvm.ClassFile.FieldType.int)) ∈ lw_all := lw_g (lw_at lw_m5 104 rfl) rfl
theorem q1180 : (Jvm.Cond.methodLink "java/lang/String" (628 : Nat) ({ cls := "java/lang/StringLatin1", name := "hashCode", desc := "([B)I" } : Jvm.MethodName)) ∈ lw_all := lw_g (lw_at lw_m5 105 rfl) rfl
theorem q1181 : (Jvm.Cond.static ({ cls := "java/lang/StringLatin1", name := "hashCode", desc := "([B)I" } : Jvm.MethodName)) ∈ lw_all := lw_g (lw_at lw_m5 106 rfl) rfl
theorem q1182 : (Jvm.Cond.code ({ cls := "java/lang/StringLatin1", name := "hashCode", desc := "([B)I" } : Jvm.MethodName) prog_70_method_21_code (1 : Nat) (Option.some Jvm.ClassFile.FieldType.int)) ∈ lw_all := lw_g (lw_at lw_m5 107 rfl) rfl
theorem q1183 : (Jvm.Cond.methodLink "java/lang/StringLatin1" (84 : Nat) ({ cls := "jdk/internal/util/ArraysSupport", name := "vectorizedHashCode", desc := "(Ljava/lang/Object;IIII)I" } : Jvm.MethodName)) ∈ lw_all := lw_g (lw_at lw_m5 108 rfl) rfl
theorem q1184 : (Jvm.Cond.static ({ cls := "jdk/internal/util/ArraysSupport", name := "vectorizedHashCode", desc := "(Ljava/lang/Object;IIII)I" } : Jvm.MethodName)) ∈ lw_all := lw_g (lw_at lw_m5 109 rfl) rfl
theorem q1185 : (Jvm.Cond.code ({ cls := "jdk/internal/util/ArraysSupport", name := "vectorizedHashCode", desc := "(Ljava/lang/Object;IIII)I" } : Jvm.MethodName) prog_98_method_4_code (5 : Nat) (Option.some Jvm.ClassFile.FieldType.int)) ∈ lw_all := lw_g (lw_at lw_m5 110 rfl) rfl
theorem q1186 : (Jvm.Cond.classLink "jdk/internal/util/ArraysSupport" (60 : Nat) "[B") ∈ lw_all := lw_g (lw_at lw_m5 111 rfl) rfl
theorem q1187 : (Jvm.Cond.methodLink "jdk/internal/util/ArraysSupport" (62 : Nat) ({ cls := "jdk/internal/util/ArraysSupport", name := "signedHashCode", desc := "(I[BII)I" } : Jvm.MethodName)) ∈ lw_all := lw_g (lw_at lw_m5 112 rfl) rfl
theorem q1188 : (Jvm.Cond.static ({ cls := "jdk/internal/util/ArraysSupport", name := "signedHashCode", desc := "(I[BII)I" } : Jvm.MethodName)) ∈ lw_all := lw_g (lw_at lw_m5 113 rfl) rfl
theorem q1189 : (Jvm.Cond.code ({ cls := "jdk/internal/util/ArraysSupport", name := "signedHashCode", desc := "(I[BII)I" } : Jvm.MethodName) prog_98_method_5_code (6 : Nat) (Option.some Jvm.ClassFile.FieldType.int)) ∈ lw_all := lw_g (lw_at lw_m5 114 rfl) rfl
theorem q1237 : (Jvm.Cond.declares ({ cls := "java/lang/Object", name := "equals", desc := "(Ljava/lang/Object;)Z" } : Jvm.MethodName)) ∈ lw_tbl := lw_at lw_m5 162 rfl
theorem q1238 : (Jvm.Cond.methodLink "java/util/HashMap" (173 : Nat) ({ cls := "java/lang/Object", name := "equals", desc := "(Ljava/lang/Object;)Z" } : Jvm.MethodName)) ∈ lw_all := lw_g (lw_at lw_m5 163 rfl) rfl
theorem q1240 : (Jvm.Cond.sameMethod "java/lang/Object" "java/lang/Object" "equals" "(Ljava/lang/Object;)Z") ∈ lw_all := lw_g (lw_at lw_m5 165 rfl) rfl
theorem q1295 : (Jvm.Cond.code ({ cls := "java/lang/Integer", name := "intValue", desc := "()I" } : Jvm.MethodName) prog_61_method_27_code (1 : Nat) (Option.some Jvm.ClassFile.FieldType.int)) ∈ lw_all := lw_g (lw_at lw_m5 220 rfl) rfl
theorem q1296 : (Jvm.Cond.selects "java/lang/String" ({ cls := "java/lang/Object", name := "equals", desc := "(Ljava/lang/Object;)Z" } : Jvm.MethodName) ({ cls := "java/lang/String", name := "equals", desc := "(Ljava/lang/Object;)Z" } : Jvm.MethodName)) ∈ lw_all := lw_g (lw_at lw_m5 221 rfl) rfl
theorem q1301 : (Jvm.Cond.classLink "java/util/HashMap" (180 : Nat) "java/util/HashMap$TreeNode") ∈ lw_all := lw_g (lw_at lw_m5 226 rfl) rfl
theorem q1618 : (Jvm.Cond.code ({ cls := "java/util/HashMap", name := "size", desc := "()I" } : Jvm.MethodName) prog_84_method_10_code (1 : Nat) (Option.some Jvm.ClassFile.FieldType.int)) ∈ lw_all := lw_g (lw_at lw_m7 63 rfl) rfl
theorem q1645 : (Jvm.Cond.code ({ cls := "java/lang/Integer", name := "valueOf", desc := "(I)Ljava/lang/Integer;" } : Jvm.MethodName) prog_61_method_22_code (1 : Nat) (Option.some (Jvm.ClassFile.FieldType.object "java/lang/Integer"))) ∈ lw_all := lw_g (lw_at lw_m7 90 rfl) rfl
theorem q1646 : (Jvm.Cond.fieldLink "java/lang/Integer" (191 : Nat) "java/lang/Integer$IntegerCache" "high" "I") ∈ lw_all := lw_g (lw_at lw_m7 91 rfl) rfl
theorem q1648 : (Jvm.Cond.fieldLink "java/lang/Integer" (195 : Nat) "java/lang/Integer$IntegerCache" "cache" "[Ljava/lang/Integer;") ∈ lw_all := lw_g (lw_at lw_m7 93 rfl) rfl
theorem q1658 : (Jvm.Cond.fieldLink "java/lang/Integer" (205 : Nat) "java/lang/Integer" "value" "I") ∈ lw_all := lw_g (lw_at lw_m7 103 rfl) rfl
theorem q1665 : (Jvm.Cond.code ({ cls := "java/util/HashMap", name := "put", desc := "(Ljava/lang/Object;Ljava/lang/Object;)Ljava/lang/Object;" } : Jvm.MethodName) prog_84_method_15_code (3 : Nat) (Option.some (Jvm.ClassFile.FieldType.object "java/lang/Object"))) ∈ lw_all := lw_g (lw_at lw_m7 110 rfl) rfl
theorem q1666 : (Jvm.Cond.methodLink "java/util/HashMap" (152 : Nat) ({ cls := "java/util/HashMap", name := "putVal", desc := "(ILjava/lang/Object;Ljava/lang/Object;ZZ)Ljava/lang/Object;" } : Jvm.MethodName)) ∈ lw_all := lw_g (lw_at lw_m7 111 rfl) rfl
theorem q1667 : (Jvm.Cond.instanceMethod ({ cls := "java/util/HashMap", name := "putVal", desc := "(ILjava/lang/Object;Ljava/lang/Object;ZZ)Ljava/lang/Object;" } : Jvm.MethodName)) ∈ lw_all := lw_g (lw_at lw_m7 112 rfl) rfl
theorem q1668 : (Jvm.Cond.selects "java/util/HashMap" ({ cls := "java/util/HashMap", name := "putVal", desc := "(ILjava/lang/Object;Ljava/lang/Object;ZZ)Ljava/lang/Object;" } : Jvm.MethodName) ({ cls := "java/util/HashMap", name := "putVal", desc := "(ILjava/lang/Object;Ljava/lang/Object;ZZ)Ljava/lang/Object;" } : Jvm.MethodName)) ∈ lw_all := lw_g (lw_at lw_m7 113 rfl) rfl
theorem q1669 : (Jvm.Cond.code ({ cls := "java/util/HashMap", name := "putVal", desc := "(ILjava/lang/Object;Ljava/lang/Object;ZZ)Ljava/lang/Object;" } : Jvm.MethodName) prog_84_method_16_code (13 : Nat) (Option.some (Jvm.ClassFile.FieldType.object "java/lang/Object"))) ∈ lw_all := lw_g (lw_at lw_m7 114 rfl) rfl
theorem q1670 : (Jvm.Cond.methodLink "java/util/HashMap" (117 : Nat) ({ cls := "java/util/HashMap", name := "resize", desc := "()[Ljava/util/HashMap$Node;" } : Jvm.MethodName)) ∈ lw_all := lw_g (lw_at lw_m7 115 rfl) rfl
theorem q1671 : (Jvm.Cond.instanceMethod ({ cls := "java/util/HashMap", name := "resize", desc := "()[Ljava/util/HashMap$Node;" } : Jvm.MethodName)) ∈ lw_all := lw_g (lw_at lw_m7 116 rfl) rfl
theorem q1672 : (Jvm.Cond.selects "java/util/HashMap" ({ cls := "java/util/HashMap", name := "resize", desc := "()[Ljava/util/HashMap$Node;" } : Jvm.MethodName) ({ cls := "java/util/HashMap", name := "resize", desc := "()[Ljava/util/HashMap$Node;" } : Jvm.MethodName)) ∈ lw_all := lw_g (lw_at lw_m7 117 rfl) rfl
theorem q1673 : (Jvm.Cond.code ({ cls := "java/util/HashMap", name := "resize", desc := "()[Ljava/util/HashMap$Node;" } : Jvm.MethodName) prog_84_method_17_code (14 : Nat) (Option.some (Jvm.ClassFile.FieldType.array (Jvm.ClassFile.FieldType.object "java/util/HashMap$Node")))) ∈ lw_all := lw_g (lw_at lw_m7 118 rfl) rfl
theorem q1677 : (Jvm.Cond.classLink "java/util/HashMap" (163 : Nat) "java/util/HashMap$Node") ∈ lw_all := lw_g (lw_at lw_m7 122 rfl) rfl
theorem q1692 : (Jvm.Cond.instantiable "java/util/HashMap$Node" (4 : Nat)) ∈ lw_all := lw_g (lw_at lw_m7 137 rfl) rfl
theorem q1693 : (Jvm.Cond.methodLink "java/util/HashMap" (375 : Nat) ({ cls := "java/util/HashMap$Node", name := "<init>", desc := "(ILjava/lang/Object;Ljava/lang/Object;Ljava/util/HashMap$Node;)V" } : Jvm.MethodName)) ∈ lw_all := lw_g (lw_at lw_m7 138 rfl) rfl
theorem q1694 : (Jvm.Cond.instanceMethod ({ cls := "java/util/HashMap$Node", name := "<init>", desc := "(ILjava/lang/Object;Ljava/lang/Object;Ljava/util/HashMap$Node;)V" } : Jvm.MethodName)) ∈ lw_all := lw_g (lw_at lw_m7 139 rfl) rfl
theorem q1695 : (Jvm.Cond.code ({ cls := "java/util/HashMap$Node", name := "<init>", desc := "(ILjava/lang/Object;Ljava/lang/Object;Ljava/util/HashMap$Node;)V" } : Jvm.MethodName) prog_85_method_1_code (5 : Nat) (Option.none : Option Jvm.ClassFile.FieldType)) ∈ lw_all := lw_g (lw_at lw_m7 140 rfl) rfl
theorem q1696 : (Jvm.Cond.methodLink "java/util/HashMap$Node" (1 : Nat) ({ cls := "java/lang/Object", name := "<init>", desc := "()V" } : Jvm.MethodName)) ∈ lw_all := lw_g (lw_at lw_m7 141 rfl) rfl
theorem q1697 : (Jvm.Cond.fieldLink "java/util/HashMap$Node" (7 : Nat) "java/util/HashMap$Node" "hash" "I") ∈ lw_all := lw_g (lw_at lw_m7 142 rfl) rfl
theorem q1700 : (Jvm.Cond.fieldLink "java/util/HashMap" (168 : Nat) "java/util/HashMap$Node" "hash" "I") ∈ lw_all := lw_g (lw_at lw_m7 145 rfl) rfl
theorem q1701 : (Jvm.Cond.fieldLink "java/util/HashMap$Node" (13 : Nat) "java/util/HashMap$Node" "key" "Ljava/lang/Object;") ∈ lw_all := lw_g (lw_at lw_m7 146 rfl) rfl
theorem q1704 : (Jvm.Cond.fieldLink "java/util/HashMap" (170 : Nat) "java/util/HashMap$Node" "key" "Ljava/lang/Object;") ∈ lw_all := lw_g (lw_at lw_m7 149 rfl) rfl
theorem q1705 : (Jvm.Cond.fieldLink "java/util/HashMap$Node" (17 : Nat) "java/util/HashMap$Node" "value" "Ljava/lang/Object;") ∈ lw_all := lw_g (lw_at lw_m7 150 rfl) rfl
theorem q1706 : (Jvm.Cond.fieldLink "java/util/HashMap" (162 : Nat) "java/util/HashMap$Node" "value" "Ljava/lang/Object;") ∈ lw_all := lw_g (lw_at lw_m7 151 rfl) rfl
theorem q1707 : (Jvm.Cond.fieldLink "java/util/HashMap$Node" (20 : Nat) "java/util/HashMap$Node" "next" "Ljava/util/HashMap$Node;") ∈ lw_all := lw_g (lw_at lw_m7 152 rfl) rfl
theorem q1711 : (Jvm.Cond.fieldLink "java/util/HashMap" (177 : Nat) "java/util/HashMap$Node" "next" "Ljava/util/HashMap$Node;") ∈ lw_all := lw_g (lw_at lw_m7 156 rfl) rfl
theorem q1740 : (Jvm.Cond.methodLink "java/util/HashMap" (186 : Nat) ({ cls := "java/util/HashMap", name := "newNode", desc := "(ILjava/lang/Object;Ljava/lang/Object;Ljava/util/HashMap$Node;)Ljava/util/HashMap$Node;" } : Jvm.MethodName)) ∈ lw_all := lw_g (lw_at lw_m7 185 rfl) rfl
theorem q1741 : (Jvm.Cond.instanceMethod ({ cls := "java/util/HashMap", name := "newNode", desc := "(ILjava/lang/Object;Ljava/lang/Object;Ljava/util/HashMap$Node;)Ljava/util/HashMap$Node;" } : Jvm.MethodName)) ∈ lw_all := lw_g (lw_at lw_m7 186 rfl) rfl
theorem q1742 : (Jvm.Cond.selects "java/util/HashMap" ({ cls := "java/util/HashMap", name := "newNode", desc := "(ILjava/lang/Object;Ljava/lang/Object;Ljava/util/HashMap$Node;)Ljava/util/HashMap$Node;" } : Jvm.MethodName) ({ cls := "java/util/HashMap", name := "newNode", desc := "(ILjava/lang/Object;Ljava/lang/Object;Ljava/util/HashMap$Node;)Ljava/util/HashMap$Node;" } : Jvm.MethodName)) ∈ lw_all := lw_g (lw_at lw_m7 187 rfl) rfl
theorem q1743 : (Jvm.Cond.code ({ cls := "java/util/HashMap", name := "newNode", desc := "(ILjava/lang/Object;Ljava/lang/Object;Ljava/util/HashMap$Node;)Ljava/util/HashMap$Node;" } : Jvm.MethodName) prog_84_method_46_code (5 : Nat) (Option.some (Jvm.ClassFile.FieldType.object "java/util/HashMap$Node"))) ∈ lw_all := lw_g (lw_at lw_m7 188 rfl) rfl
theorem q1794 : (Jvm.Cond.methodLink "java/util/HashMap" (198 : Nat) ({ cls := "java/util/HashMap", name := "afterNodeAccess", desc := "(Ljava/util/HashMap$Node;)V" } : Jvm.MethodName)) ∈ lw_all := lw_g (lw_at lw_m7 239 rfl) rfl
theorem q1795 : (Jvm.Cond.instanceMethod ({ cls := "java/util/HashMap", name := "afterNodeAccess", desc := "(Ljava/util/HashMap$Node;)V" } : Jvm.MethodName)) ∈ lw_all := lw_g (lw_at lw_m8 0 rfl) rfl
theorem q1796 : (Jvm.Cond.selects "java/util/HashMap" ({ cls := "java/util/HashMap", name := "afterNodeAccess", desc := "(Ljava/util/HashMap$Node;)V" } : Jvm.MethodName) ({ cls := "java/util/HashMap", name := "afterNodeAccess", desc := "(Ljava/util/HashMap$Node;)V" } : Jvm.MethodName)) ∈ lw_all := lw_g (lw_at lw_m8 1 rfl) rfl
theorem q1797 : (Jvm.Cond.code ({ cls := "java/util/HashMap", name := "afterNodeAccess", desc := "(Ljava/util/HashMap$Node;)V" } : Jvm.MethodName) prog_84_method_51_code (2 : Nat) (Option.none : Option Jvm.ClassFile.FieldType)) ∈ lw_all := lw_g (lw_at lw_m8 2 rfl) rfl
theorem q1798 : (Jvm.Cond.methodLink "java/util/HashMap" (205 : Nat) ({ cls := "java/util/HashMap", name := "afterNodeInsertion", desc := "(Z)V" } : Jvm.MethodName)) ∈ lw_all := lw_g (lw_at lw_m8 3 rfl) rfl
theorem q1799 : (Jvm.Cond.instanceMethod ({ cls := "java/util/HashMap", name := "afterNodeInsertion", desc := "(Z)V" } : Jvm.MethodName)) ∈ lw_all := lw_g (lw_at lw_m8 4 rfl) rfl
theorem q1800 : (Jvm.Cond.selects "java/util/HashMap" ({ cls := "java/util/HashMap", name := "afterNodeInsertion", desc := "(Z)V" } : Jvm.MethodName) ({ cls := "java/util/HashMap", name := "afterNodeInsertion", desc := "(Z)V" } : Jvm.MethodName)) ∈ lw_all := lw_g (lw_at lw_m8 5 rfl) rfl
theorem q1801 : (Jvm.Cond.code ({ cls := "java/util/HashMap", name := "afterNodeInsertion", desc := "(Z)V" } : Jvm.MethodName) prog_84_method_52_code (2 : Nat) (Option.none : Option Jvm.ClassFile.FieldType)) ∈ lw_all := lw_g (lw_at lw_m8 6 rfl) rfl
theorem q1827 : (Jvm.Cond.code ({ cls := "java/util/HashMap", name := "get", desc := "(Ljava/lang/Object;)Ljava/lang/Object;" } : Jvm.MethodName) prog_84_method_12_code (3 : Nat) (Option.some (Jvm.ClassFile.FieldType.object "java/lang/Object"))) ∈ lw_all := lw_g (lw_at lw_m8 32 rfl) rfl
/-! jdk/internal/util/ArraysSupport.signedHashCode(I[BII)I -/
abbrev cJ3_signedHashCode : ByteArray := prog_98_method_5_code
def yJ3_signedHashCode : MethodName := ⟨RJ3, "signedHashCode", "(I[BII)I"⟩
def dkwJ3_signedHashCode_1 : List UInt8 := [17, 0, 255, 126, 96, 59, 132, 5, 1, 167, 255, 232, 26, 172]
abbrev dktJ3_signedHashCode_1 : List UInt8 := dkwJ3_signedHashCode_1 ++ []
def dkwJ3_signedHashCode_0 : List UInt8 := [28, 29, 96, 54, 4, 28, 54, 5, 21, 5, 21, 4, 162, 0, 23, 16, 31, 26, 104, 43, 21, 5, 51]
abbrev dktJ3_signedHashCode_0 : List UInt8 := dkwJ3_signedHashCode_0 ++ dktJ3_signedHashCode_1
theorem dksJ3_signedHashCode_0 : cJ3_signedHashCode.data.toList.drop 0 = dktJ3_signedHashCode_0 := by decide +kernel
theorem dksJ3_signedHashCode_1 : cJ3_signedHashCode.data.toList.drop 23 = dktJ3_signedHashCode_1 := dk_seg dksJ3_signedHashCode_0 23 rfl rfl
theorem dJ3_signedHashCode_0 : decode cJ3_signedHashCode 0 = .ok (.iload_n 2, 1) := dk_28 (dk_at dksJ3_signedHashCode_0 0 rfl rfl)
theorem dJ3_signedHashCode_1 : decode cJ3_signedHashCode 1 = .ok (.iload_n 3, 1) := dk_29 (dk_at dksJ3_signedHashCode_0 1 rfl rfl)
theorem dJ3_signedHashCode_2 : decode cJ3_signedHashCode 2 = .ok (.iadd, 1) := dk_96 (dk_at dksJ3_signedHashCode_0 2 rfl rfl)
theorem dJ3_signedHashCode_3 : decode cJ3_signedHashCode 3 = .ok (.istore 4, 2) := dk_54 4 (dk_at dksJ3_signedHashCode_0 3 rfl rfl)
theorem dJ3_signedHashCode_5 : decode cJ3_signedHashCode 5 = .ok (.iload_n 2, 1) := dk_28 (dk_at dksJ3_signedHashCode_0 5 rfl rfl)
theorem dJ3_signedHashCode_6 : decode cJ3_signedHashCode 6 = .ok (.istore 5, 2) := dk_54 5 (dk_at dksJ3_signedHashCode_0 6 rfl rfl)
theorem dJ3_signedHashCode_8 : decode cJ3_signedHashCode 8 = .ok (.iload 5, 2) := dk_21 5 (dk_at dksJ3_signedHashCode_0 8 rfl rfl)
theorem dJ3_signedHashCode_10 : decode cJ3_signedHashCode 10 = .ok (.iload 4, 2) := dk_21 4 (dk_at dksJ3_signedHashCode_0 10 rfl rfl)
theorem dJ3_signedHashCode_12 : decode cJ3_signedHashCode 12 = .ok (.if_icmp .ge 23, 3) := dk_162 0 23 (dk_at dksJ3_signedHashCode_0 12 rfl rfl)
theorem dJ3_signedHashCode_15 : decode cJ3_signedHashCode 15 = .ok (.bipush 31, 2) := dk_16 31 (dk_at dksJ3_signedHashCode_0 15 rfl rfl)
theorem dJ3_signedHashCode_17 : decode cJ3_signedHashCode 17 = .ok (.iload_n 0, 1) := dk_26 (dk_at dksJ3_signedHashCode_0 17 rfl rfl)
theorem dJ3_signedHashCode_18 : decode cJ3_signedHashCode 18 = .ok (.imul, 1) := dk_104 (dk_at dksJ3_signedHashCode_0 18 rfl rfl)
theorem dJ3_signedHashCode_19 : decode cJ3_signedHashCode 19 = .ok (.aload_n 1, 1) := dk_43 (dk_at dksJ3_signedHashCode_0 19 rfl rfl)
theorem dJ3_signedHashCode_20 : decode cJ3_signedHashCode 20 = .ok (.iload 5, 2) := dk_21 5 (dk_at dksJ3_signedHashCode_0 20 rfl rfl)
theorem dJ3_signedHashCode_22 : decode cJ3_signedHashCode 22 = .ok (.baload, 1) := dk_51 (dk_at dksJ3_signedHashCode_0 22 rfl rfl)
theorem dJ3_signedHashCode_23 : decode cJ3_signedHashCode 23 = .ok (.sipush 255, 3) := dk_17 0 255 (dk_at dksJ3_signedHashCode_1 0 rfl rfl)
theorem dJ3_signedHashCode_26 : decode cJ3_signedHashCode 26 = .ok (.iand, 1) := dk_126 (dk_at dksJ3_signedHashCode_1 3 rfl rfl)
theorem dJ3_signedHashCode_27 : decode cJ3_signedHashCode 27 = .ok (.iadd, 1) := dk_96 (dk_at dksJ3_signedHashCode_1 4 rfl rfl)
theorem dJ3_signedHashCode_28 : decode cJ3_signedHashCode 28 = .ok (.istore_n 0, 1) := dk_59 (dk_at dksJ3_signedHashCode_1 5 rfl rfl)
theorem dJ3_signedHashCode_29 : decode cJ3_signedHashCode 29 = .ok (.iinc 5 1, 3) := dk_132 5 1 (dk_at dksJ3_signedHashCode_1 6 rfl rfl)
theorem dJ3_signedHashCode_32 : decode cJ3_signedHashCode 32 = .ok (.goto (-24), 3) := dk_167 255 232 (dk_at dksJ3_signedHashCode_1 9 rfl rfl)
theorem dJ3_signedHashCode_35 : decode cJ3_signedHashCode 35 = .ok (.iload_n 0, 1) := dk_26 (dk_at dksJ3_signedHashCode_1 12 rfl rfl)
theorem dJ3_signedHashCode_36 : decode cJ3_signedHashCode 36 = .ok (.ireturn, 1) := dk_172 (dk_at dksJ3_signedHashCode_1 13 rfl rfl)
abbrev mJ3_signedHashCode : sd_Y := (yJ3_signedHashCode, cJ3_signedHashCode, 6, some (.int), none)
def fJ3_signedHashCode_b8 (G : sd_G) (k8 : Int32 × Nat × Int32 × Int32 → sd_M Int32) (w0 : Int32) (w1 : Nat) (w4 : Int32) (w5 : Int32) : sd_M Int32 :=
  if w4 ≤ w5 then (
    sd_ret w0)
  else (
    sd_bnd (sd_aldI G 2 w1 w5) fun v2 =>
    sd_bnd (sd_ret (((31 : Int32) * w0) + (v2 &&& 255))) fun x3 =>
    sd_bnd (sd_ret (w5 + 1)) fun x4 =>
    k8 (x3, w1, w4, x4))
set_option maxHeartbeats 4000000 in
theorem sJ3_signedHashCode_b8 (l : Launch) (G : sd_G) (a1 : Int32) (a2 : Nat) (a3 : Int32) (a4 : Int32) (ρ : Int32) (h2 : sd_H) (cT : Nat × Nat) (k8 : Int32 × Nat × Int32 × Int32 → sd_M Int32) (Hk8 : ∀ (q : Int32 × Nat × Int32 × Int32) (h : sd_H) (c : Nat × Nat), k8 q h = some (ρ, c, h2) → sd_J mJ3_signedHashCode ((l, G), (0, 0), [.int a1, .ref a2, .int a3, .int a4], (sd_oI ρ, h2), cT) 8 [(0, .int q.1), (1, .ref q.2.1), (4, .int q.2.2.1), (5, .int q.2.2.2)] [] h c) (w0 : Int32) (w1 : Nat) (w4 : Int32) (w5 : Int32) (h : sd_H) (c : Nat × Nat) (hf : fJ3_signedHashCode_b8 G k8 w0 w1 w4 w5 h = some (ρ, c, h2)) : sd_J mJ3_signedHashCode ((l, G), (0, 0), [.int a1, .ref a2, .int a3, .int a4], (sd_oI ρ, h2), cT) 8 [(0, .int w0), (1, .ref w1), (4, .int w4), (5, .int w5)] [] h c := by
  unfold fJ3_signedHashCode_b8 at hf
  refine sj_iload 3 dJ3_signedHashCode_8 rfl ?_
  refine sj_iload 2 dJ3_signedHashCode_10 rfl ?_
  refine sj_icge 35 hf dJ3_signedHashCode_12 (by decide) (fun g12 hf => ?_) (fun g12 hf => ?_)
  · refine sj_iload_n 0 dJ3_signedHashCode_35 rfl ?_
    exact sj_iret (o := sd_oI) hf rfl rfl rfl dJ3_signedHashCode_36
  · refine sj_bipush (v := 31) dJ3_signedHashCode_15 (by decide) ?_
    refine sj_iload_n 0 dJ3_signedHashCode_17 rfl ?_
    refine sj_imul dJ3_signedHashCode_18 ?_
    refine sj_aload_n 1 dJ3_signedHashCode_19 rfl ?_
    refine sj_iload 3 dJ3_signedHashCode_20 rfl ?_
    refine sj_bald hf dJ3_signedHashCode_22 (fun v2 hf => ?_)
    refine sj_sipush (v := 255) dJ3_signedHashCode_23 (by decide) ?_
    refine sj_iand dJ3_signedHashCode_26 ?_
    refine sj_iadd dJ3_signedHashCode_27 ?_
    refine sj_nameI hf (fun x3 hf => ?_)
    refine sj_istore_n [(0, .int x3), (1, .ref w1), (4, .int w4), (5, .int w5)] dJ3_signedHashCode_28 (by decide) rfl ?_
    refine sj_iincN 3 (fun x4 => [(5, .int x4), (0, .int x3), (1, .ref w1), (4, .int w4)]) 1 hf dJ3_signedHashCode_29 rfl (by decide) (by decide) (fun _ => rfl) (fun x4 hf => ?_)
    refine sj_goto 8 dJ3_signedHashCode_32 (by decide) ?_
    exact sj_loc [1, 2, 3, 0] rfl (Hk8 (x3, w1, w4, x4) _ _ hf)
theorem sJ3_signedHashCode_b8_loop (l : Launch) (G : sd_G) (a1 : Int32) (a2 : Nat) (a3 : Int32) (a4 : Int32) (ρ : Int32) (h2 : sd_H) (cT : Nat × Nat) (n : Nat) : ∀ (q : Int32 × Nat × Int32 × Int32) (h : sd_H) (c : Nat × Nat), sd_loop (fun k s => fJ3_signedHashCode_b8 G k s.1 s.2.1 s.2.2.1 s.2.2.2) n q h = some (ρ, c, h2) → sd_J mJ3_signedHashCode ((l, G), (0, 0), [.int a1, .ref a2, .int a3, .int a4], (sd_oI ρ, h2), cT) 8 [(0, .int q.1), (1, .ref q.2.1), (4, .int q.2.2.1), (5, .int q.2.2.2)] [] h c := by
  induction n with
  | zero => intro q h c hf; cases hf
  | succ n ih => intro q h c hf; exact sJ3_signedHashCode_b8 l G a1 a2 a3 a4 ρ h2 cT _ ih _ _ _ _ _ _ hf
def fJ3_signedHashCode (G : sd_G) (a1 : Int32) (a2 : Nat) (a3 : Int32) (a4 : Int32) : sd_M Int32 :=
  sd_bnd (sd_ret (a3 + a4)) fun x1 =>
  sd_loop (fun k s => fJ3_signedHashCode_b8 G k s.1 s.2.1 s.2.2.1 s.2.2.2) sd_FU (a1, a2, x1, a3)
set_option maxHeartbeats 4000000 in
theorem sJ3_signedHashCode (l : Launch) (G : sd_G) (a1 : Int32) (a2 : Nat) (a3 : Int32) (a4 : Int32) (h : sd_H) (ρ : Int32) (cT : Nat × Nat) (h2 : sd_H) (hf : fJ3_signedHashCode G a1 a2 a3 a4 h = some (ρ, cT, h2)) : sd_Met mJ3_signedHashCode ((l, G), (0, 0), [.int a1, .ref a2, .int a3, .int a4], (sd_oI ρ, h2), cT) h := by
  refine sd_entry (plainFor_of_name rfl) rfl (Nat.le_of_ble_eq_true rfl) ?_
  show sd_J mJ3_signedHashCode ((l, G), (0, 0), [.int a1, .ref a2, .int a3, .int a4], (sd_oI ρ, h2), cT) 0 [(0, .int a1), (1, .ref a2), (2, .int a3), (3, .int a4)] [] h cT
  unfold fJ3_signedHashCode at hf
  refine sj_iload_n 2 dJ3_signedHashCode_0 rfl ?_
  refine sj_iload_n 3 dJ3_signedHashCode_1 rfl ?_
  refine sj_iadd dJ3_signedHashCode_2 ?_
  refine sj_nameI hf (fun x1 hf => ?_)
  refine sj_istore [(4, .int x1), (0, .int a1), (1, .ref a2), (2, .int a3), (3, .int a4)] dJ3_signedHashCode_3 (by decide) rfl ?_
  refine sj_iload_n 3 dJ3_signedHashCode_5 rfl ?_
  refine sj_istore [(5, .int a3), (4, .int x1), (0, .int a1), (1, .ref a2), (2, .int a3), (3, .int a4)] dJ3_signedHashCode_6 (by decide) rfl ?_
  exact sj_loc [2, 3, 1, 0] rfl (sJ3_signedHashCode_b8_loop l G a1 a2 a3 a4 ρ h2 cT sd_FU (a1, a2, x1, a3) _ _ hf)
/-! jdk/internal/util/ArraysSupport.vectorizedHashCode(Ljava/lang/Object;IIII)I -/
abbrev cJ3_vectorizedHashCode : ByteArray := prog_98_method_4_code
def yJ3_vectorizedHashCode : MethodName := ⟨RJ3, "vectorizedHashCode", "(Ljava/lang/Object;IIII)I"⟩
def dkwJ3_vectorizedHashCode_6 : List UInt8 := [183, 0, 91, 18, 92, 182, 0, 94, 21, 4, 182, 0, 98, 182, 0, 101, 183, 0, 105, 191, 172]
abbrev dktJ3_vectorizedHashCode_6 : List UInt8 := dkwJ3_vectorizedHashCode_6 ++ []
def dkwJ3_vectorizedHashCode_5 : List UInt8 := [167, 0, 44, 29, 42, 192, 0, 82, 27, 28, 184, 0, 84, 167, 0, 31, 187, 0, 87, 89, 187, 0, 89, 89]
abbrev dktJ3_vectorizedHashCode_5 : List UInt8 := dkwJ3_vectorizedHashCode_5 ++ dktJ3_vectorizedHashCode_6
def dkwJ3_vectorizedHashCode_4 : List UInt8 := [29, 42, 192, 0, 60, 27, 28, 184, 0, 75, 167, 0, 57, 29, 42, 192, 0, 77, 27, 28, 184, 0, 79]
abbrev dktJ3_vectorizedHashCode_4 : List UInt8 := dkwJ3_vectorizedHashCode_4 ++ dktJ3_vectorizedHashCode_5
def dkwJ3_vectorizedHashCode_3 : List UInt8 := [192, 0, 60, 27, 28, 184, 0, 66, 167, 0, 83, 29, 42, 192, 0, 69, 27, 28, 184, 0, 71, 167, 0, 70]
abbrev dktJ3_vectorizedHashCode_3 : List UInt8 := dkwJ3_vectorizedHashCode_3 ++ dktJ3_vectorizedHashCode_4
def dkwJ3_vectorizedHashCode_2 : List UInt8 := [29, 42, 192, 0, 60, 27, 28, 184, 0, 62, 167, 0, 103, 42, 193, 0, 60, 153, 0, 16, 29, 42]
abbrev dktJ3_vectorizedHashCode_2 : List UInt8 := dkwJ3_vectorizedHashCode_2 ++ dktJ3_vectorizedHashCode_3
def dkwJ3_vectorizedHashCode_1 : List UInt8 := [170, 0, 0, 0, 0, 127, 0, 0, 0, 4, 0, 0, 0, 10, 0, 0, 0, 42, 0, 0, 0, 55, 0, 0, 0, 127, 0, 0, 0, 127, 0, 0, 0, 88, 0, 0, 0, 101, 0, 0, 0, 114]
abbrev dktJ3_vectorizedHashCode_1 : List UInt8 := dkwJ3_vectorizedHashCode_1 ++ dktJ3_vectorizedHashCode_2
def dkwJ3_vectorizedHashCode_0 : List UInt8 := [21, 4]
abbrev dktJ3_vectorizedHashCode_0 : List UInt8 := dkwJ3_vectorizedHashCode_0 ++ dktJ3_vectorizedHashCode_1
theorem dksJ3_vectorizedHashCode_0 : cJ3_vectorizedHashCode.data.toList.drop 0 = dktJ3_vectorizedHashCode_0 := by decide +kernel
theorem dksJ3_vectorizedHashCode_1 : cJ3_vectorizedHashCode.data.toList.drop 2 = dktJ3_vectorizedHashCode_1 := dk_seg dksJ3_vectorizedHashCode_0 2 rfl rfl
theorem dksJ3_vectorizedHashCode_2 : cJ3_vectorizedHashCode.data.toList.drop 44 = dktJ3_vectorizedHashCode_2 := dk_seg dksJ3_vectorizedHashCode_1 42 rfl rfl
theorem dksJ3_vectorizedHashCode_3 : cJ3_vectorizedHashCode.data.toList.drop 66 = dktJ3_vectorizedHashCode_3 := dk_seg dksJ3_vectorizedHashCode_2 22 rfl rfl
theorem dksJ3_vectorizedHashCode_4 : cJ3_vectorizedHashCode.data.toList.drop 90 = dktJ3_vectorizedHashCode_4 := dk_seg dksJ3_vectorizedHashCode_3 24 rfl rfl
theorem dksJ3_vectorizedHashCode_5 : cJ3_vectorizedHashCode.data.toList.drop 113 = dktJ3_vectorizedHashCode_5 := dk_seg dksJ3_vectorizedHashCode_4 23 rfl rfl
theorem dksJ3_vectorizedHashCode_6 : cJ3_vectorizedHashCode.data.toList.drop 137 = dktJ3_vectorizedHashCode_6 := dk_seg dksJ3_vectorizedHashCode_5 24 rfl rfl
theorem dJ3_vectorizedHashCode_0 : decode cJ3_vectorizedHashCode 0 = .ok (.iload 4, 2) := dk_21 4 (dk_at dksJ3_vectorizedHashCode_0 0 rfl rfl)
theorem dJ3_vectorizedHashCode_2 : decode cJ3_vectorizedHashCode 2 = .ok (.tableswitch 127 4 10 #[42, 55, 127, 127, 88, 101, 114], 42) := by decide +kernel
theorem dJ3_vectorizedHashCode_44 : decode cJ3_vectorizedHashCode 44 = .ok (.iload_n 3, 1) := dk_29 (dk_at dksJ3_vectorizedHashCode_2 0 rfl rfl)
theorem dJ3_vectorizedHashCode_45 : decode cJ3_vectorizedHashCode 45 = .ok (.aload_n 0, 1) := dk_42 (dk_at dksJ3_vectorizedHashCode_2 1 rfl rfl)
theorem dJ3_vectorizedHashCode_46 : decode cJ3_vectorizedHashCode 46 = .ok (.checkcast 60, 3) := dk_192 0 60 (dk_at dksJ3_vectorizedHashCode_2 2 rfl rfl)
theorem dJ3_vectorizedHashCode_49 : decode cJ3_vectorizedHashCode 49 = .ok (.iload_n 1, 1) := dk_27 (dk_at dksJ3_vectorizedHashCode_2 5 rfl rfl)
theorem dJ3_vectorizedHashCode_50 : decode cJ3_vectorizedHashCode 50 = .ok (.iload_n 2, 1) := dk_28 (dk_at dksJ3_vectorizedHashCode_2 6 rfl rfl)
theorem dJ3_vectorizedHashCode_51 : decode cJ3_vectorizedHashCode 51 = .ok (.invokestatic 62, 3) := dk_184 0 62 (dk_at dksJ3_vectorizedHashCode_2 7 rfl rfl)
theorem dJ3_vectorizedHashCode_54 : decode cJ3_vectorizedHashCode 54 = .ok (.goto 103, 3) := dk_167 0 103 (dk_at dksJ3_vectorizedHashCode_2 10 rfl rfl)
theorem dJ3_vectorizedHashCode_57 : decode cJ3_vectorizedHashCode 57 = .ok (.aload_n 0, 1) := dk_42 (dk_at dksJ3_vectorizedHashCode_2 13 rfl rfl)
theorem dJ3_vectorizedHashCode_58 : decode cJ3_vectorizedHashCode 58 = .ok (.instanceof 60, 3) := dk_193 0 60 (dk_at dksJ3_vectorizedHashCode_2 14 rfl rfl)
theorem dJ3_vectorizedHashCode_61 : decode cJ3_vectorizedHashCode 61 = .ok (.ifCond .eq 16, 3) := dk_153 0 16 (dk_at dksJ3_vectorizedHashCode_2 17 rfl rfl)
theorem dJ3_vectorizedHashCode_64 : decode cJ3_vectorizedHashCode 64 = .ok (.iload_n 3, 1) := dk_29 (dk_at dksJ3_vectorizedHashCode_2 20 rfl rfl)
theorem dJ3_vectorizedHashCode_65 : decode cJ3_vectorizedHashCode 65 = .ok (.aload_n 0, 1) := dk_42 (dk_at dksJ3_vectorizedHashCode_2 21 rfl rfl)
theorem dJ3_vectorizedHashCode_66 : decode cJ3_vectorizedHashCode 66 = .ok (.checkcast 60, 3) := dk_192 0 60 (dk_at dksJ3_vectorizedHashCode_3 0 rfl rfl)
theorem dJ3_vectorizedHashCode_69 : decode cJ3_vectorizedHashCode 69 = .ok (.iload_n 1, 1) := dk_27 (dk_at dksJ3_vectorizedHashCode_3 3 rfl rfl)
theorem dJ3_vectorizedHashCode_70 : decode cJ3_vectorizedHashCode 70 = .ok (.iload_n 2, 1) := dk_28 (dk_at dksJ3_vectorizedHashCode_3 4 rfl rfl)
theorem dJ3_vectorizedHashCode_71 : decode cJ3_vectorizedHashCode 71 = .ok (.invokestatic 66, 3) := dk_184 0 66 (dk_at dksJ3_vectorizedHashCode_3 5 rfl rfl)
theorem dJ3_vectorizedHashCode_74 : decode cJ3_vectorizedHashCode 74 = .ok (.goto 83, 3) := dk_167 0 83 (dk_at dksJ3_vectorizedHashCode_3 8 rfl rfl)
theorem dJ3_vectorizedHashCode_77 : decode cJ3_vectorizedHashCode 77 = .ok (.iload_n 3, 1) := dk_29 (dk_at dksJ3_vectorizedHashCode_3 11 rfl rfl)
theorem dJ3_vectorizedHashCode_78 : decode cJ3_vectorizedHashCode 78 = .ok (.aload_n 0, 1) := dk_42 (dk_at dksJ3_vectorizedHashCode_3 12 rfl rfl)
theorem dJ3_vectorizedHashCode_79 : decode cJ3_vectorizedHashCode 79 = .ok (.checkcast 69, 3) := dk_192 0 69 (dk_at dksJ3_vectorizedHashCode_3 13 rfl rfl)
theorem dJ3_vectorizedHashCode_82 : decode cJ3_vectorizedHashCode 82 = .ok (.iload_n 1, 1) := dk_27 (dk_at dksJ3_vectorizedHashCode_3 16 rfl rfl)
theorem dJ3_vectorizedHashCode_83 : decode cJ3_vectorizedHashCode 83 = .ok (.iload_n 2, 1) := dk_28 (dk_at dksJ3_vectorizedHashCode_3 17 rfl rfl)
theorem dJ3_vectorizedHashCode_84 : decode cJ3_vectorizedHashCode 84 = .ok (.invokestatic 71, 3) := dk_184 0 71 (dk_at dksJ3_vectorizedHashCode_3 18 rfl rfl)
theorem dJ3_vectorizedHashCode_87 : decode cJ3_vectorizedHashCode 87 = .ok (.goto 70, 3) := dk_167 0 70 (dk_at dksJ3_vectorizedHashCode_3 21 rfl rfl)
theorem dJ3_vectorizedHashCode_90 : decode cJ3_vectorizedHashCode 90 = .ok (.iload_n 3, 1) := dk_29 (dk_at dksJ3_vectorizedHashCode_4 0 rfl rfl)
theorem dJ3_vectorizedHashCode_91 : decode cJ3_vectorizedHashCode 91 = .ok (.aload_n 0, 1) := dk_42 (dk_at dksJ3_vectorizedHashCode_4 1 rfl rfl)
theorem dJ3_vectorizedHashCode_92 : decode cJ3_vectorizedHashCode 92 = .ok (.checkcast 60, 3) := dk_192 0 60 (dk_at dksJ3_vectorizedHashCode_4 2 rfl rfl)
theorem dJ3_vectorizedHashCode_95 : decode cJ3_vectorizedHashCode 95 = .ok (.iload_n 1, 1) := dk_27 (dk_at dksJ3_vectorizedHashCode_4 5 rfl rfl)
theorem dJ3_vectorizedHashCode_96 : decode cJ3_vectorizedHashCode 96 = .ok (.iload_n 2, 1) := dk_28 (dk_at dksJ3_vectorizedHashCode_4 6 rfl rfl)
theorem dJ3_vectorizedHashCode_97 : decode cJ3_vectorizedHashCode 97 = .ok (.invokestatic 75, 3) := dk_184 0 75 (dk_at dksJ3_vectorizedHashCode_4 7 rfl rfl)
theorem dJ3_vectorizedHashCode_100 : decode cJ3_vectorizedHashCode 100 = .ok (.goto 57, 3) := dk_167 0 57 (dk_at dksJ3_vectorizedHashCode_4 10 rfl rfl)
theorem dJ3_vectorizedHashCode_103 : decode cJ3_vectorizedHashCode 103 = .ok (.iload_n 3, 1) := dk_29 (dk_at dksJ3_vectorizedHashCode_4 13 rfl rfl)
theorem dJ3_vectorizedHashCode_104 : decode cJ3_vectorizedHashCode 104 = .ok (.aload_n 0, 1) := dk_42 (dk_at dksJ3_vectorizedHashCode_4 14 rfl rfl)
theorem dJ3_vectorizedHashCode_105 : decode cJ3_vectorizedHashCode 105 = .ok (.checkcast 77, 3) := dk_192 0 77 (dk_at dksJ3_vectorizedHashCode_4 15 rfl rfl)
theorem dJ3_vectorizedHashCode_108 : decode cJ3_vectorizedHashCode 108 = .ok (.iload_n 1, 1) := dk_27 (dk_at dksJ3_vectorizedHashCode_4 18 rfl rfl)
theorem dJ3_vectorizedHashCode_109 : decode cJ3_vectorizedHashCode 109 = .ok (.iload_n 2, 1) := dk_28 (dk_at dksJ3_vectorizedHashCode_4 19 rfl rfl)
theorem dJ3_vectorizedHashCode_110 : decode cJ3_vectorizedHashCode 110 = .ok (.invokestatic 79, 3) := dk_184 0 79 (dk_at dksJ3_vectorizedHashCode_4 20 rfl rfl)
theorem dJ3_vectorizedHashCode_113 : decode cJ3_vectorizedHashCode 113 = .ok (.goto 44, 3) := dk_167 0 44 (dk_at dksJ3_vectorizedHashCode_5 0 rfl rfl)
theorem dJ3_vectorizedHashCode_116 : decode cJ3_vectorizedHashCode 116 = .ok (.iload_n 3, 1) := dk_29 (dk_at dksJ3_vectorizedHashCode_5 3 rfl rfl)
theorem dJ3_vectorizedHashCode_117 : decode cJ3_vectorizedHashCode 117 = .ok (.aload_n 0, 1) := dk_42 (dk_at dksJ3_vectorizedHashCode_5 4 rfl rfl)
theorem dJ3_vectorizedHashCode_118 : decode cJ3_vectorizedHashCode 118 = .ok (.checkcast 82, 3) := dk_192 0 82 (dk_at dksJ3_vectorizedHashCode_5 5 rfl rfl)
theorem dJ3_vectorizedHashCode_121 : decode cJ3_vectorizedHashCode 121 = .ok (.iload_n 1, 1) := dk_27 (dk_at dksJ3_vectorizedHashCode_5 8 rfl rfl)
theorem dJ3_vectorizedHashCode_122 : decode cJ3_vectorizedHashCode 122 = .ok (.iload_n 2, 1) := dk_28 (dk_at dksJ3_vectorizedHashCode_5 9 rfl rfl)
theorem dJ3_vectorizedHashCode_123 : decode cJ3_vectorizedHashCode 123 = .ok (.invokestatic 84, 3) := dk_184 0 84 (dk_at dksJ3_vectorizedHashCode_5 10 rfl rfl)
theorem dJ3_vectorizedHashCode_126 : decode cJ3_vectorizedHashCode 126 = .ok (.goto 31, 3) := dk_167 0 31 (dk_at dksJ3_vectorizedHashCode_5 13 rfl rfl)
theorem dJ3_vectorizedHashCode_129 : decode cJ3_vectorizedHashCode 129 = .ok (.new 87, 3) := dk_187 0 87 (dk_at dksJ3_vectorizedHashCode_5 16 rfl rfl)
theorem dJ3_vectorizedHashCode_132 : decode cJ3_vectorizedHashCode 132 = .ok (.dup, 1) := dk_89 (dk_at dksJ3_vectorizedHashCode_5 19 rfl rfl)
theorem dJ3_vectorizedHashCode_133 : decode cJ3_vectorizedHashCode 133 = .ok (.new 89, 3) := dk_187 0 89 (dk_at dksJ3_vectorizedHashCode_5 20 rfl rfl)
theorem dJ3_vectorizedHashCode_136 : decode cJ3_vectorizedHashCode 136 = .ok (.dup, 1) := dk_89 (dk_at dksJ3_vectorizedHashCode_5 23 rfl rfl)
theorem dJ3_vectorizedHashCode_137 : decode cJ3_vectorizedHashCode 137 = .ok (.invokespecial 91, 3) := dk_183 0 91 (dk_at dksJ3_vectorizedHashCode_6 0 rfl rfl)
theorem dJ3_vectorizedHashCode_140 : decode cJ3_vectorizedHashCode 140 = .ok (.ldc 92, 2) := dk_18 92 (dk_at dksJ3_vectorizedHashCode_6 3 rfl rfl)
theorem dJ3_vectorizedHashCode_142 : decode cJ3_vectorizedHashCode 142 = .ok (.invokevirtual 94, 3) := dk_182 0 94 (dk_at dksJ3_vectorizedHashCode_6 5 rfl rfl)
theorem dJ3_vectorizedHashCode_145 : decode cJ3_vectorizedHashCode 145 = .ok (.iload 4, 2) := dk_21 4 (dk_at dksJ3_vectorizedHashCode_6 8 rfl rfl)
theorem dJ3_vectorizedHashCode_147 : decode cJ3_vectorizedHashCode 147 = .ok (.invokevirtual 98, 3) := dk_182 0 98 (dk_at dksJ3_vectorizedHashCode_6 10 rfl rfl)
theorem dJ3_vectorizedHashCode_150 : decode cJ3_vectorizedHashCode 150 = .ok (.invokevirtual 101, 3) := dk_182 0 101 (dk_at dksJ3_vectorizedHashCode_6 13 rfl rfl)
theorem dJ3_vectorizedHashCode_153 : decode cJ3_vectorizedHashCode 153 = .ok (.invokespecial 105, 3) := dk_183 0 105 (dk_at dksJ3_vectorizedHashCode_6 16 rfl rfl)
theorem dJ3_vectorizedHashCode_156 : decode cJ3_vectorizedHashCode 156 = .ok (.athrow, 1) := dk_191 (dk_at dksJ3_vectorizedHashCode_6 19 rfl rfl)
theorem dJ3_vectorizedHashCode_157 : decode cJ3_vectorizedHashCode 157 = .ok (.ireturn, 1) := dk_172 (dk_at dksJ3_vectorizedHashCode_6 20 rfl rfl)
abbrev mJ3_vectorizedHashCode : sd_Y := (yJ3_vectorizedHashCode, cJ3_vectorizedHashCode, 5, some (.int), none)
def fJ3_vectorizedHashCode (G : sd_G) (a1 : Nat) (a2 : Int32) (a3 : Int32) (a4 : Int32) (a5 : Int32) : sd_M Int32 :=
  if a5 = 4 then (
    sd_bnd (sd_isA G 2 a1) fun _ =>
    sd_bnd (fJ3_signedHashCode G a4 a1 a2 a3) fun r1 =>
    sd_ret r1)
  else if a5 = 5 then (
    sd_fail)
  else if a5 = 6 then (
    sd_fail)
  else if a5 = 7 then (
    sd_fail)
  else if a5 = 8 then (
    sd_fail)
  else if a5 = 9 then (
    sd_fail)
  else if a5 = 10 then (
    sd_fail)
  else (
  sd_fail)
set_option maxHeartbeats 4000000 in
theorem sJ3_vectorizedHashCode (l : Launch) (G : sd_G) (a1 : Nat) (a2 : Int32) (a3 : Int32) (a4 : Int32) (a5 : Int32) (h : sd_H) (ρ : Int32) (cT : Nat × Nat) (h2 : sd_H) (hf : fJ3_vectorizedHashCode G a1 a2 a3 a4 a5 h = some (ρ, cT, h2)) : sd_Met mJ3_vectorizedHashCode ((l, G), (1, 25), [.ref a1, .int a2, .int a3, .int a4, .int a5], (sd_oI ρ, h2), cT) h := by
  refine sd_entry (plainFor_of_name rfl) rfl (Nat.le_of_ble_eq_true rfl) ?_
  show sd_J mJ3_vectorizedHashCode ((l, G), (1, 25), [.ref a1, .int a2, .int a3, .int a4, .int a5], (sd_oI ρ, h2), cT) 0 [(0, .ref a1), (1, .int a2), (2, .int a3), (3, .int a4), (4, .int a5)] [] h cT
  unfold fJ3_vectorizedHashCode at hf
  refine sj_iload 4 dJ3_vectorizedHashCode_0 rfl ?_
  by_cases e2_0 : a5 = 4
  · rw [if_pos e2_0] at hf
    refine sj_tsw 44 dJ3_vectorizedHashCode_2 (k := 4) e2_0 (by decide) (by decide) (by decide) (by decide) ?_
    refine sj_iload_n 3 dJ3_vectorizedHashCode_44 rfl ?_
    refine sj_aload_n 0 dJ3_vectorizedHashCode_45 rfl ?_
    refine sj_castA sd_nmB hf q1186 dJ3_vectorizedHashCode_46 (fun hf => ?_)
    refine sj_iload_n 1 dJ3_vectorizedHashCode_49 rfl ?_
    refine sj_iload_n 2 dJ3_vectorizedHashCode_50 rfl ?_
    refine sj_cI (rest := []) (fun _ _ _ e => sj_runS (n := 4) (rest := []) (sJ3_signedHashCode l G a4 a1 a2 a3 h _ _ _ e) rfl rfl q1187 q1188 q123 q1189 (by decide +kernel) rfl ⟨Nat.le_of_ble_eq_true rfl, Nat.le_of_ble_eq_true rfl⟩ rfl (Nat.le_of_ble_eq_true rfl) dJ3_vectorizedHashCode_51) hf (fun r1 h c hf => ?_)
    refine sj_goto 157 dJ3_vectorizedHashCode_54 (by decide) ?_
    exact sj_iret (o := sd_oI) hf rfl rfl rfl dJ3_vectorizedHashCode_157
  rw [if_neg e2_0] at hf
  by_cases e2_1 : a5 = 5
  · rw [if_pos e2_1] at hf
    refine sj_tsw 57 dJ3_vectorizedHashCode_2 (k := 5) e2_1 (by decide) (by decide) (by decide) (by decide) ?_
    cases hf
  rw [if_neg e2_1] at hf
  by_cases e2_2 : a5 = 6
  · rw [if_pos e2_2] at hf
    refine sj_tsw 129 dJ3_vectorizedHashCode_2 (k := 6) e2_2 (by decide) (by decide) (by decide) (by decide) ?_
    cases hf
  rw [if_neg e2_2] at hf
  by_cases e2_3 : a5 = 7
  · rw [if_pos e2_3] at hf
    refine sj_tsw 129 dJ3_vectorizedHashCode_2 (k := 7) e2_3 (by decide) (by decide) (by decide) (by decide) ?_
    cases hf
  rw [if_neg e2_3] at hf
  by_cases e2_4 : a5 = 8
  · rw [if_pos e2_4] at hf
    refine sj_tsw 90 dJ3_vectorizedHashCode_2 (k := 8) e2_4 (by decide) (by decide) (by decide) (by decide) ?_
    cases hf
  rw [if_neg e2_4] at hf
  by_cases e2_5 : a5 = 9
  · rw [if_pos e2_5] at hf
    refine sj_tsw 103 dJ3_vectorizedHashCode_2 (k := 9) e2_5 (by decide) (by decide) (by decide) (by decide) ?_
    cases hf
  rw [if_neg e2_5] at hf
  by_cases e2_6 : a5 = 10
  · rw [if_pos e2_6] at hf
    refine sj_tsw 116 dJ3_vectorizedHashCode_2 (k := 10) e2_6 (by decide) (by decide) (by decide) (by decide) ?_
    cases hf
  rw [if_neg e2_6] at hf
  refine sj_tswD 129 dJ3_vectorizedHashCode_2 (by have z0 := lv_neT e2_0 (show (4 : Int32).toInt = 4 by decide); have z1 := lv_neT e2_1 (show (5 : Int32).toInt = 5 by decide); have z2 := lv_neT e2_2 (show (6 : Int32).toInt = 6 by decide); have z3 := lv_neT e2_3 (show (7 : Int32).toInt = 7 by decide); have z4 := lv_neT e2_4 (show (8 : Int32).toInt = 8 by decide); have z5 := lv_neT e2_5 (show (9 : Int32).toInt = 9 by decide); have z6 := lv_neT e2_6 (show (10 : Int32).toInt = 10 by decide); omega) (by decide) ?_
  cases hf
/-! java/lang/StringLatin1.hashCode([B)I -/
abbrev cJ16_hashCode : ByteArray := prog_70_method_21_code
def yJ16_hashCode : MethodName := ⟨RJ16, "hashCode", "([B)I"⟩
def dkwJ16_hashCode_2 : List UInt8 := [3, 167, 0, 22, 42, 3, 51, 17, 0, 255, 126, 167, 0, 12, 42, 3, 42, 190, 3, 7, 184, 0, 84, 172]
abbrev dktJ16_hashCode_2 : List UInt8 := dkwJ16_hashCode_2 ++ []
def dkwJ16_hashCode_1 : List UInt8 := [171, 0, 0, 0, 0, 40, 0, 0, 0, 2, 0, 0, 0, 0, 0, 0, 0, 26, 0, 0, 0, 1, 0, 0, 0, 30]
abbrev dktJ16_hashCode_1 : List UInt8 := dkwJ16_hashCode_1 ++ dktJ16_hashCode_2
def dkwJ16_hashCode_0 : List UInt8 := [42, 190]
abbrev dktJ16_hashCode_0 : List UInt8 := dkwJ16_hashCode_0 ++ dktJ16_hashCode_1
theorem dksJ16_hashCode_0 : cJ16_hashCode.data.toList.drop 0 = dktJ16_hashCode_0 := by decide +kernel
theorem dksJ16_hashCode_1 : cJ16_hashCode.data.toList.drop 2 = dktJ16_hashCode_1 := dk_seg dksJ16_hashCode_0 2 rfl rfl
theorem dksJ16_hashCode_2 : cJ16_hashCode.data.toList.drop 28 = dktJ16_hashCode_2 := dk_seg dksJ16_hashCode_1 26 rfl rfl
theorem dJ16_hashCode_0 : decode cJ16_hashCode 0 = .ok (.aload_n 0, 1) := dk_42 (dk_at dksJ16_hashCode_0 0 rfl rfl)
theorem dJ16_hashCode_1 : decode cJ16_hashCode 1 = .ok (.arraylength, 1) := dk_190 (dk_at dksJ16_hashCode_0 1 rfl rfl)
theorem dJ16_hashCode_2 : decode cJ16_hashCode 2 = .ok (.lookupswitch 40 #[(0, 26), (1, 30)], 26) := by decide +kernel
theorem dJ16_hashCode_28 : decode cJ16_hashCode 28 = .ok (.iconst 0, 1) := dk_3 (dk_at dksJ16_hashCode_2 0 rfl rfl)
theorem dJ16_hashCode_29 : decode cJ16_hashCode 29 = .ok (.goto 22, 3) := dk_167 0 22 (dk_at dksJ16_hashCode_2 1 rfl rfl)
theorem dJ16_hashCode_32 : decode cJ16_hashCode 32 = .ok (.aload_n 0, 1) := dk_42 (dk_at dksJ16_hashCode_2 4 rfl rfl)
theorem dJ16_hashCode_33 : decode cJ16_hashCode 33 = .ok (.iconst 0, 1) := dk_3 (dk_at dksJ16_hashCode_2 5 rfl rfl)
theorem dJ16_hashCode_34 : decode cJ16_hashCode 34 = .ok (.baload, 1) := dk_51 (dk_at dksJ16_hashCode_2 6 rfl rfl)
theorem dJ16_hashCode_35 : decode cJ16_hashCode 35 = .ok (.sipush 255, 3) := dk_17 0 255 (dk_at dksJ16_hashCode_2 7 rfl rfl)
theorem dJ16_hashCode_38 : decode cJ16_hashCode 38 = .ok (.iand, 1) := dk_126 (dk_at dksJ16_hashCode_2 10 rfl rfl)
theorem dJ16_hashCode_39 : decode cJ16_hashCode 39 = .ok (.goto 12, 3) := dk_167 0 12 (dk_at dksJ16_hashCode_2 11 rfl rfl)
theorem dJ16_hashCode_42 : decode cJ16_hashCode 42 = .ok (.aload_n 0, 1) := dk_42 (dk_at dksJ16_hashCode_2 14 rfl rfl)
theorem dJ16_hashCode_43 : decode cJ16_hashCode 43 = .ok (.iconst 0, 1) := dk_3 (dk_at dksJ16_hashCode_2 15 rfl rfl)
theorem dJ16_hashCode_44 : decode cJ16_hashCode 44 = .ok (.aload_n 0, 1) := dk_42 (dk_at dksJ16_hashCode_2 16 rfl rfl)
theorem dJ16_hashCode_45 : decode cJ16_hashCode 45 = .ok (.arraylength, 1) := dk_190 (dk_at dksJ16_hashCode_2 17 rfl rfl)
theorem dJ16_hashCode_46 : decode cJ16_hashCode 46 = .ok (.iconst 0, 1) := dk_3 (dk_at dksJ16_hashCode_2 18 rfl rfl)
theorem dJ16_hashCode_47 : decode cJ16_hashCode 47 = .ok (.iconst 4, 1) := dk_7 (dk_at dksJ16_hashCode_2 19 rfl rfl)
theorem dJ16_hashCode_48 : decode cJ16_hashCode 48 = .ok (.invokestatic 84, 3) := dk_184 0 84 (dk_at dksJ16_hashCode_2 20 rfl rfl)
theorem dJ16_hashCode_51 : decode cJ16_hashCode 51 = .ok (.ireturn, 1) := dk_172 (dk_at dksJ16_hashCode_2 23 rfl rfl)
abbrev mJ16_hashCode : sd_Y := (yJ16_hashCode, cJ16_hashCode, 1, some (.int), none)
def fJ16_hashCode (G : sd_G) (a1 : Nat) : sd_M Int32 :=
  sd_bnd (sd_alen G a1) fun v1 =>
  if v1 = 0 then (
    sd_ret 0)
  else if v1 = 1 then (
    sd_bnd (sd_aldI G 2 a1 0) fun v2 =>
    sd_ret (v2 &&& 255))
  else (
  sd_bnd (sd_alen G a1) fun v3 =>
  sd_bnd (fJ3_vectorizedHashCode G a1 0 v3 0 4) fun r4 =>
  sd_ret r4)
set_option maxHeartbeats 4000000 in
theorem sJ16_hashCode (l : Launch) (G : sd_G) (a1 : Nat) (h : sd_H) (ρ : Int32) (cT : Nat × Nat) (h2 : sd_H) (hf : fJ16_hashCode G a1 h = some (ρ, cT, h2)) : sd_Met mJ16_hashCode ((l, G), (2, 49), [.ref a1], (sd_oI ρ, h2), cT) h := by
  refine sd_entry (plainFor_of_name rfl) rfl (Nat.le_of_ble_eq_true rfl) ?_
  show sd_J mJ16_hashCode ((l, G), (2, 49), [.ref a1], (sd_oI ρ, h2), cT) 0 [(0, .ref a1)] [] h cT
  unfold fJ16_hashCode at hf
  refine sj_aload_n 0 dJ16_hashCode_0 rfl ?_
  refine sj_alen hf dJ16_hashCode_1 (fun v1 hf => ?_)
  by_cases e2_0 : v1 = 0
  · rw [if_pos e2_0] at hf
    refine sj_lsw 28 dJ16_hashCode_2 (k := 0) e2_0 (by decide) (by decide) (by decide) ?_
    refine sj_iconst (v := 0) dJ16_hashCode_28 (by decide) ?_
    refine sj_goto 51 dJ16_hashCode_29 (by decide) ?_
    exact sj_iret (o := sd_oI) hf rfl rfl rfl dJ16_hashCode_51
  rw [if_neg e2_0] at hf
  by_cases e2_1 : v1 = 1
  · rw [if_pos e2_1] at hf
    refine sj_lsw 32 dJ16_hashCode_2 (k := 1) e2_1 (by decide) (by decide) (by decide) ?_
    refine sj_aload_n 0 dJ16_hashCode_32 rfl ?_
    refine sj_iconst (v := 0) dJ16_hashCode_33 (by decide) ?_
    refine sj_bald hf dJ16_hashCode_34 (fun v2 hf => ?_)
    refine sj_sipush (v := 255) dJ16_hashCode_35 (by decide) ?_
    refine sj_iand dJ16_hashCode_38 ?_
    refine sj_goto 51 dJ16_hashCode_39 (by decide) ?_
    exact sj_iret (o := sd_oI) hf rfl rfl rfl dJ16_hashCode_51
  rw [if_neg e2_1] at hf
  refine sj_lswD 42 dJ16_hashCode_2 (by decide) (by rw [lv_osw e2_0 (by decide)]; rw [lv_osw e2_1 (by decide)]; rfl) (by decide) ?_
  refine sj_aload_n 0 dJ16_hashCode_42 rfl ?_
  refine sj_iconst (v := 0) dJ16_hashCode_43 (by decide) ?_
  refine sj_aload_n 0 dJ16_hashCode_44 rfl ?_
  refine sj_alen hf dJ16_hashCode_45 (fun v3 hf => ?_)
  refine sj_iconst (v := 0) dJ16_hashCode_46 (by decide) ?_
  refine sj_iconst (v := 4) dJ16_hashCode_47 (by decide) ?_
  refine sj_cI (rest := []) (fun _ _ _ e => sj_runS (n := 5) (rest := []) (sJ3_vectorizedHashCode l G a1 0 v3 0 4 h _ _ _ e) rfl rfl q1183 q1184 q123 q1185 (by decide +kernel) rfl ⟨Nat.le_of_ble_eq_true rfl, Nat.le_of_ble_eq_true rfl⟩ rfl (Nat.le_of_ble_eq_true rfl) dJ16_hashCode_48) hf (fun r4 h c hf => ?_)
  exact sj_iret (o := sd_oI) hf rfl rfl rfl dJ16_hashCode_51
/-! java/lang/String.hashCode()I -/
abbrev cJ14_hashCode : ByteArray := prog_68_method_78_code
def yJ14_hashCode : MethodName := ⟨RJ14, "hashCode", "()I"⟩
def dkwJ14_hashCode_2 : List UInt8 := [181, 0, 23, 167, 0, 8, 42, 27, 181, 0, 19, 27, 172]
abbrev dktJ14_hashCode_2 : List UInt8 := dkwJ14_hashCode_2 ++ []
def dkwJ14_hashCode_1 : List UInt8 := [180, 0, 9, 184, 2, 116, 167, 0, 10, 42, 180, 0, 9, 184, 2, 120, 60, 27, 154, 0, 11, 42, 4]
abbrev dktJ14_hashCode_1 : List UInt8 := dkwJ14_hashCode_1 ++ dktJ14_hashCode_2
def dkwJ14_hashCode_0 : List UInt8 := [42, 180, 0, 19, 60, 27, 154, 0, 52, 42, 180, 0, 23, 154, 0, 45, 42, 182, 1, 236, 153, 0, 13, 42]
abbrev dktJ14_hashCode_0 : List UInt8 := dkwJ14_hashCode_0 ++ dktJ14_hashCode_1
theorem dksJ14_hashCode_0 : cJ14_hashCode.data.toList.drop 0 = dktJ14_hashCode_0 := by decide +kernel
theorem dksJ14_hashCode_1 : cJ14_hashCode.data.toList.drop 24 = dktJ14_hashCode_1 := dk_seg dksJ14_hashCode_0 24 rfl rfl
theorem dksJ14_hashCode_2 : cJ14_hashCode.data.toList.drop 47 = dktJ14_hashCode_2 := dk_seg dksJ14_hashCode_1 23 rfl rfl
theorem dJ14_hashCode_0 : decode cJ14_hashCode 0 = .ok (.aload_n 0, 1) := dk_42 (dk_at dksJ14_hashCode_0 0 rfl rfl)
theorem dJ14_hashCode_1 : decode cJ14_hashCode 1 = .ok (.getfield 19, 3) := dk_180 0 19 (dk_at dksJ14_hashCode_0 1 rfl rfl)
theorem dJ14_hashCode_4 : decode cJ14_hashCode 4 = .ok (.istore_n 1, 1) := dk_60 (dk_at dksJ14_hashCode_0 4 rfl rfl)
theorem dJ14_hashCode_5 : decode cJ14_hashCode 5 = .ok (.iload_n 1, 1) := dk_27 (dk_at dksJ14_hashCode_0 5 rfl rfl)
theorem dJ14_hashCode_6 : decode cJ14_hashCode 6 = .ok (.ifCond .ne 52, 3) := dk_154 0 52 (dk_at dksJ14_hashCode_0 6 rfl rfl)
theorem dJ14_hashCode_9 : decode cJ14_hashCode 9 = .ok (.aload_n 0, 1) := dk_42 (dk_at dksJ14_hashCode_0 9 rfl rfl)
theorem dJ14_hashCode_10 : decode cJ14_hashCode 10 = .ok (.getfield 23, 3) := dk_180 0 23 (dk_at dksJ14_hashCode_0 10 rfl rfl)
theorem dJ14_hashCode_13 : decode cJ14_hashCode 13 = .ok (.ifCond .ne 45, 3) := dk_154 0 45 (dk_at dksJ14_hashCode_0 13 rfl rfl)
theorem dJ14_hashCode_16 : decode cJ14_hashCode 16 = .ok (.aload_n 0, 1) := dk_42 (dk_at dksJ14_hashCode_0 16 rfl rfl)
theorem dJ14_hashCode_17 : decode cJ14_hashCode 17 = .ok (.invokevirtual 492, 3) := dk_182 1 236 (dk_at dksJ14_hashCode_0 17 rfl rfl)
theorem dJ14_hashCode_20 : decode cJ14_hashCode 20 = .ok (.ifCond .eq 13, 3) := dk_153 0 13 (dk_at dksJ14_hashCode_0 20 rfl rfl)
theorem dJ14_hashCode_23 : decode cJ14_hashCode 23 = .ok (.aload_n 0, 1) := dk_42 (dk_at dksJ14_hashCode_0 23 rfl rfl)
theorem dJ14_hashCode_24 : decode cJ14_hashCode 24 = .ok (.getfield 9, 3) := dk_180 0 9 (dk_at dksJ14_hashCode_1 0 rfl rfl)
theorem dJ14_hashCode_27 : decode cJ14_hashCode 27 = .ok (.invokestatic 628, 3) := dk_184 2 116 (dk_at dksJ14_hashCode_1 3 rfl rfl)
theorem dJ14_hashCode_30 : decode cJ14_hashCode 30 = .ok (.goto 10, 3) := dk_167 0 10 (dk_at dksJ14_hashCode_1 6 rfl rfl)
theorem dJ14_hashCode_33 : decode cJ14_hashCode 33 = .ok (.aload_n 0, 1) := dk_42 (dk_at dksJ14_hashCode_1 9 rfl rfl)
theorem dJ14_hashCode_34 : decode cJ14_hashCode 34 = .ok (.getfield 9, 3) := dk_180 0 9 (dk_at dksJ14_hashCode_1 10 rfl rfl)
theorem dJ14_hashCode_37 : decode cJ14_hashCode 37 = .ok (.invokestatic 632, 3) := dk_184 2 120 (dk_at dksJ14_hashCode_1 13 rfl rfl)
theorem dJ14_hashCode_40 : decode cJ14_hashCode 40 = .ok (.istore_n 1, 1) := dk_60 (dk_at dksJ14_hashCode_1 16 rfl rfl)
theorem dJ14_hashCode_41 : decode cJ14_hashCode 41 = .ok (.iload_n 1, 1) := dk_27 (dk_at dksJ14_hashCode_1 17 rfl rfl)
theorem dJ14_hashCode_42 : decode cJ14_hashCode 42 = .ok (.ifCond .ne 11, 3) := dk_154 0 11 (dk_at dksJ14_hashCode_1 18 rfl rfl)
theorem dJ14_hashCode_45 : decode cJ14_hashCode 45 = .ok (.aload_n 0, 1) := dk_42 (dk_at dksJ14_hashCode_1 21 rfl rfl)
theorem dJ14_hashCode_46 : decode cJ14_hashCode 46 = .ok (.iconst 1, 1) := dk_4 (dk_at dksJ14_hashCode_1 22 rfl rfl)
theorem dJ14_hashCode_47 : decode cJ14_hashCode 47 = .ok (.putfield 23, 3) := dk_181 0 23 (dk_at dksJ14_hashCode_2 0 rfl rfl)
theorem dJ14_hashCode_50 : decode cJ14_hashCode 50 = .ok (.goto 8, 3) := dk_167 0 8 (dk_at dksJ14_hashCode_2 3 rfl rfl)
theorem dJ14_hashCode_53 : decode cJ14_hashCode 53 = .ok (.aload_n 0, 1) := dk_42 (dk_at dksJ14_hashCode_2 6 rfl rfl)
theorem dJ14_hashCode_54 : decode cJ14_hashCode 54 = .ok (.iload_n 1, 1) := dk_27 (dk_at dksJ14_hashCode_2 7 rfl rfl)
theorem dJ14_hashCode_55 : decode cJ14_hashCode 55 = .ok (.putfield 19, 3) := dk_181 0 19 (dk_at dksJ14_hashCode_2 8 rfl rfl)
theorem dJ14_hashCode_58 : decode cJ14_hashCode 58 = .ok (.iload_n 1, 1) := dk_27 (dk_at dksJ14_hashCode_2 11 rfl rfl)
theorem dJ14_hashCode_59 : decode cJ14_hashCode 59 = .ok (.ireturn, 1) := dk_172 (dk_at dksJ14_hashCode_2 12 rfl rfl)
theorem fdJ14_19_45 : sd_Fd "java/lang/String" 19 45 2 := ⟨(RJ14, TJ14, 4), "java/lang/String", rfl, by decide, rfl, in_J14, Or.inl rfl, Or.inl q834⟩
theorem fdJ14_23_45 : sd_Fd "java/lang/String" 23 45 3 := ⟨(RJ14, TJ14, 4), "java/lang/String", rfl, by decide, rfl, in_J14, Or.inl rfl, Or.inl q835⟩
theorem fpJ14_19_45 (n d : String) : sd_Fp ⟨"java/lang/String", n, d⟩ 19 45 2 .int := ⟨(RJ14, TJ14, 4), "java/lang/String", tyJ14, rfl, by decide, rfl, in_J14, Or.inl rfl, tyJ14_ok, nmJ14, rfl, Or.inl ⟨rfl, Or.inl q834⟩⟩
theorem fpJ14_23_45 (n d : String) : sd_Fp ⟨"java/lang/String", n, d⟩ 23 45 3 .boolean := ⟨(RJ14, TJ14, 4), "java/lang/String", tyJ14, rfl, by decide, rfl, in_J14, Or.inl rfl, tyJ14_ok, nmJ14, rfl, Or.inl ⟨rfl, Or.inl q835⟩⟩
abbrev mJ14_hashCode : sd_Y := (yJ14_hashCode, cJ14_hashCode, 2, some (.int), none)
def fJ14_hashCode (G : sd_G) (a0 : Nat) : sd_M Int32 :=
  sd_bnd (sd_getI G 45 2 a0) fun v1 =>
  if v1 = 0 then (
    sd_bnd (sd_getI G 45 3 a0) fun v2 =>
    if v2 = 0 then (
      sd_bnd (sd_isC G 45 a0) fun _ =>
      sd_bnd (fJ14_isLatin1 G a0) fun r3 =>
      if r3 = 0 then (
        sd_fail)
      else (
        sd_bnd (sd_getR G 45 0 a0) fun v4 =>
        sd_bnd (fJ16_hashCode G v4) fun r5 =>
        if r5 = 0 then (
          sd_bnd (sd_put 45 3 .boolean a0 (.int 1)) fun _ =>
          sd_ret r5)
        else (
          sd_bnd (sd_put 45 2 .int a0 (.int r5)) fun _ =>
          sd_ret r5)))
    else (
      sd_ret v1))
  else (
    sd_ret v1)
set_option maxHeartbeats 4000000 in
theorem sJ14_hashCode (l : Launch) (G : sd_G) (a0 : Nat) (h : sd_H) (ρ : Int32) (cT : Nat × Nat) (h2 : sd_H) (hf : fJ14_hashCode G a0 h = some (ρ, cT, h2)) : sd_Met mJ14_hashCode ((l, G), (3, 69), [.ref a0], (sd_oI ρ, h2), cT) h := by
  refine sd_entry (plainFor_of_name rfl) rfl (Nat.le_of_ble_eq_true rfl) ?_
  show sd_J mJ14_hashCode ((l, G), (3, 69), [.ref a0], (sd_oI ρ, h2), cT) 0 [(0, .ref a0)] [] h cT
  unfold fJ14_hashCode at hf
  refine sj_aload_n 0 dJ14_hashCode_0 rfl ?_
  refine sj_getI fdJ14_19_45 hf dJ14_hashCode_1 (fun v1 hf => ?_)
  refine sj_istore_n [(1, .int v1), (0, .ref a0)] dJ14_hashCode_4 (by decide) rfl ?_
  refine sj_iload_n 0 dJ14_hashCode_5 rfl ?_
  refine sj_ifne 58 hf dJ14_hashCode_6 (by decide) (fun g6 hf => ?_) (fun g6 hf => ?_)
  · refine sj_iload_n 0 dJ14_hashCode_58 rfl ?_
    exact sj_iret (o := sd_oI) hf rfl rfl rfl dJ14_hashCode_59
  · refine sj_aload_n 1 dJ14_hashCode_9 rfl ?_
    refine sj_getI fdJ14_23_45 hf dJ14_hashCode_10 (fun v2 hf => ?_)
    refine sj_ifne 58 hf dJ14_hashCode_13 (by decide) (fun g13 hf => ?_) (fun g13 hf => ?_)
    · refine sj_iload_n 0 dJ14_hashCode_58 rfl ?_
      exact sj_iret (o := sd_oI) hf rfl rfl rfl dJ14_hashCode_59
    · refine sj_aload_n 1 dJ14_hashCode_16 rfl ?_
      obtain ⟨fs17, he17, hf⟩ := sd_isC_some hf
      refine sj_cI (rest := []) (fun _ _ _ e => sj_runV (n := 0) (As := []) (rest := []) (sJ14_isLatin1 l G a0 h _ _ _ e) he17 rfl rfl rfl rfl q874 q875 q876 q141 q877 (by decide +kernel) rfl rfl ⟨Nat.le_of_ble_eq_true rfl, Nat.le_of_ble_eq_true rfl⟩ rfl (Nat.le_of_ble_eq_true rfl) dJ14_hashCode_17) hf (fun r3 h c hf => ?_)
      refine sj_ifeq 33 hf dJ14_hashCode_20 (by decide) (fun g20 hf => ?_) (fun g20 hf => ?_)
      · cases hf
      · refine sj_aload_n 1 dJ14_hashCode_23 rfl ?_
        refine sj_getR fdJ14_9_45 hf dJ14_hashCode_24 (fun v4 hf => ?_)
        refine sj_cI (rest := []) (fun _ _ _ e => sj_runS (n := 1) (rest := []) (sJ16_hashCode l G v4 h _ _ _ e) rfl rfl q1180 q1181 q143 q1182 (by decide +kernel) rfl ⟨Nat.le_of_ble_eq_true rfl, Nat.le_of_ble_eq_true rfl⟩ rfl (Nat.le_of_ble_eq_true rfl) dJ14_hashCode_27) hf (fun r5 h c hf => ?_)
        refine sj_goto 40 dJ14_hashCode_30 (by decide) ?_
        refine sj_istore_n [(1, .int r5), (0, .ref a0)] dJ14_hashCode_40 (by decide) rfl ?_
        refine sj_iload_n 0 dJ14_hashCode_41 rfl ?_
        refine sj_ifne 53 hf dJ14_hashCode_42 (by decide) (fun g42 hf => ?_) (fun g42 hf => ?_)
        · refine sj_aload_n 1 dJ14_hashCode_53 rfl ?_
          refine sj_iload_n 0 dJ14_hashCode_54 rfl ?_
          refine sj_put (fpJ14_19_45 _ _) hf dJ14_hashCode_55 (fun h hf => ?_)
          refine sj_iload_n 0 dJ14_hashCode_58 rfl ?_
          exact sj_iret (o := sd_oI) hf rfl rfl rfl dJ14_hashCode_59
        · refine sj_aload_n 1 dJ14_hashCode_45 rfl ?_
          refine sj_iconst (v := 1) dJ14_hashCode_46 (by decide) ?_
          refine sj_put (fpJ14_23_45 _ _) hf dJ14_hashCode_47 (fun h hf => ?_)
          refine sj_goto 58 dJ14_hashCode_50 (by decide) ?_
          refine sj_iload_n 0 dJ14_hashCode_58 rfl ?_
          exact sj_iret (o := sd_oI) hf rfl rfl rfl dJ14_hashCode_59
/-! java/lang/Integer.valueOf(I)Ljava/lang/Integer; -/
abbrev cJ19_valueOf : ByteArray := prog_61_method_22_code
def yJ19_valueOf : MethodName := ⟨RJ19, "valueOf", "(I)Ljava/lang/Integer;"⟩
def dkwJ19_valueOf_1 : List UInt8 := [187, 0, 1, 89, 26, 183, 0, 199, 176]
abbrev dktJ19_valueOf_1 : List UInt8 := dkwJ19_valueOf_1 ++ []
def dkwJ19_valueOf_0 : List UInt8 := [26, 16, 128, 161, 0, 20, 26, 178, 0, 191, 163, 0, 13, 178, 0, 195, 26, 17, 0, 128, 96, 50, 176]
abbrev dktJ19_valueOf_0 : List UInt8 := dkwJ19_valueOf_0 ++ dktJ19_valueOf_1
theorem dksJ19_valueOf_0 : cJ19_valueOf.data.toList.drop 0 = dktJ19_valueOf_0 := by decide +kernel
theorem dksJ19_valueOf_1 : cJ19_valueOf.data.toList.drop 23 = dktJ19_valueOf_1 := dk_seg dksJ19_valueOf_0 23 rfl rfl
theorem dJ19_valueOf_0 : decode cJ19_valueOf 0 = .ok (.iload_n 0, 1) := dk_26 (dk_at dksJ19_valueOf_0 0 rfl rfl)
theorem dJ19_valueOf_1 : decode cJ19_valueOf 1 = .ok (.bipush (-128), 2) := dk_16 128 (dk_at dksJ19_valueOf_0 1 rfl rfl)
theorem dJ19_valueOf_3 : decode cJ19_valueOf 3 = .ok (.if_icmp .lt 20, 3) := dk_161 0 20 (dk_at dksJ19_valueOf_0 3 rfl rfl)
theorem dJ19_valueOf_6 : decode cJ19_valueOf 6 = .ok (.iload_n 0, 1) := dk_26 (dk_at dksJ19_valueOf_0 6 rfl rfl)
theorem dJ19_valueOf_7 : decode cJ19_valueOf 7 = .ok (.getstatic 191, 3) := dk_178 0 191 (dk_at dksJ19_valueOf_0 7 rfl rfl)
theorem dJ19_valueOf_10 : decode cJ19_valueOf 10 = .ok (.if_icmp .gt 13, 3) := dk_163 0 13 (dk_at dksJ19_valueOf_0 10 rfl rfl)
theorem dJ19_valueOf_13 : decode cJ19_valueOf 13 = .ok (.getstatic 195, 3) := dk_178 0 195 (dk_at dksJ19_valueOf_0 13 rfl rfl)
theorem dJ19_valueOf_16 : decode cJ19_valueOf 16 = .ok (.iload_n 0, 1) := dk_26 (dk_at dksJ19_valueOf_0 16 rfl rfl)
theorem dJ19_valueOf_17 : decode cJ19_valueOf 17 = .ok (.sipush 128, 3) := dk_17 0 128 (dk_at dksJ19_valueOf_0 17 rfl rfl)
theorem dJ19_valueOf_20 : decode cJ19_valueOf 20 = .ok (.iadd, 1) := dk_96 (dk_at dksJ19_valueOf_0 20 rfl rfl)
theorem dJ19_valueOf_21 : decode cJ19_valueOf 21 = .ok (.aaload, 1) := dk_50 (dk_at dksJ19_valueOf_0 21 rfl rfl)
theorem dJ19_valueOf_22 : decode cJ19_valueOf 22 = .ok (.areturn, 1) := dk_176 (dk_at dksJ19_valueOf_0 22 rfl rfl)
theorem dJ19_valueOf_23 : decode cJ19_valueOf 23 = .ok (.new 1, 3) := dk_187 0 1 (dk_at dksJ19_valueOf_1 0 rfl rfl)
theorem dJ19_valueOf_26 : decode cJ19_valueOf 26 = .ok (.dup, 1) := dk_89 (dk_at dksJ19_valueOf_1 3 rfl rfl)
theorem dJ19_valueOf_27 : decode cJ19_valueOf 27 = .ok (.iload_n 0, 1) := dk_26 (dk_at dksJ19_valueOf_1 4 rfl rfl)
theorem dJ19_valueOf_28 : decode cJ19_valueOf 28 = .ok (.invokespecial 199, 3) := dk_183 0 199 (dk_at dksJ19_valueOf_1 5 rfl rfl)
theorem dJ19_valueOf_31 : decode cJ19_valueOf 31 = .ok (.areturn, 1) := dk_176 (dk_at dksJ19_valueOf_1 8 rfl rfl)
abbrev mJ19_valueOf : sd_Y := (yJ19_valueOf, cJ19_valueOf, 1, some (.object "java/lang/Integer"), none)
def fJ19_valueOf (G : sd_G) (a1 : Int32) : sd_M Nat :=
  if a1 < (-128) then (
    sd_fail)
  else (
    if 127 < a1 then (
      sd_fail)
    else (
      sd_bnd (sd_aldR G 9 (sd_ad G 8) (a1 + 128)) fun v1 =>
      sd_ret v1))
set_option maxHeartbeats 4000000 in
theorem sJ19_valueOf (l : Launch) (G : sd_G) (a1 : Int32) (h : sd_H) (ρ : Nat) (cT : Nat × Nat) (h2 : sd_H) (hf : fJ19_valueOf G a1 h = some (ρ, cT, h2)) : sd_Met mJ19_valueOf ((l, G), (0, 0), [.int a1], (sd_oR ρ, h2), cT) h := by
  refine sd_entry (plainFor_of_name rfl) rfl (Nat.le_of_ble_eq_true rfl) ?_
  show sd_J mJ19_valueOf ((l, G), (0, 0), [.int a1], (sd_oR ρ, h2), cT) 0 [(0, .int a1)] [] h cT
  unfold fJ19_valueOf at hf
  refine sj_iload_n 0 dJ19_valueOf_0 rfl ?_
  refine sj_bipush (v := (-128)) dJ19_valueOf_1 (by decide) ?_
  refine sj_iclt 23 hf dJ19_valueOf_3 (by decide) (fun g3 hf => ?_) (fun g3 hf => ?_)
  · cases hf
  · refine sj_iload_n 0 dJ19_valueOf_6 rfl ?_
    refine sj_gets (v := .int 127) 22 rfl rfl ⟨Or.inl q1646, rfl⟩ dJ19_valueOf_7 ?_
    refine sj_icgt 23 hf dJ19_valueOf_10 (by decide) (fun g10 hf => ?_) (fun g10 hf => ?_)
    · cases hf
    · refine sj_gets (v := .ref (sd_ad G 8)) 23 rfl rfl ⟨Or.inl q1648, rfl⟩ dJ19_valueOf_13 ?_
      refine sj_iload_n 0 dJ19_valueOf_16 rfl ?_
      refine sj_sipush (v := 128) dJ19_valueOf_17 (by decide) ?_
      refine sj_iadd dJ19_valueOf_20 ?_
      refine sj_aald rfl rfl hf dJ19_valueOf_21 (fun v1 hf => ?_)
      exact sj_aret (o := sd_oR) hf rfl rfl rfl (Or.inl ⟨_, rfl⟩) dJ19_valueOf_22
/-! java/lang/Integer.intValue()I -/
abbrev cJ19_intValue : ByteArray := prog_61_method_27_code
def yJ19_intValue : MethodName := ⟨RJ19, "intValue", "()I"⟩
theorem dJ19_intValue_0 : decode cJ19_intValue 0 = .ok (.aload_n 0, 1) := by decide +kernel
theorem dJ19_intValue_1 : decode cJ19_intValue 1 = .ok (.getfield 205, 3) := by decide +kernel
theorem dJ19_intValue_4 : decode cJ19_intValue 4 = .ok (.ireturn, 1) := by decide +kernel
theorem fdJ19_205_47 : sd_Fd "java/lang/Integer" 205 47 0 := ⟨(RJ19, TJ19, 1), "java/lang/Integer", rfl, by decide, rfl, in_J19, Or.inl rfl, Or.inl q1658⟩
abbrev mJ19_intValue : sd_Y := (yJ19_intValue, cJ19_intValue, 1, some (.int), none)
def fJ19_intValue (G : sd_G) (a0 : Nat) : sd_M Int32 :=
  sd_bnd (sd_getI G 47 0 a0) fun v1 =>
  sd_ret v1
set_option maxHeartbeats 4000000 in
theorem sJ19_intValue (l : Launch) (G : sd_G) (a0 : Nat) (h : sd_H) (ρ : Int32) (cT : Nat × Nat) (h2 : sd_H) (hf : fJ19_intValue G a0 h = some (ρ, cT, h2)) : sd_Met mJ19_intValue ((l, G), (0, 0), [.ref a0], (sd_oI ρ, h2), cT) h := by
  refine sd_entry (plainFor_of_name rfl) rfl (Nat.le_of_ble_eq_true rfl) ?_
  show sd_J mJ19_intValue ((l, G), (0, 0), [.ref a0], (sd_oI ρ, h2), cT) 0 [(0, .ref a0)] [] h cT
  unfold fJ19_intValue at hf
  refine sj_aload_n 0 dJ19_intValue_0 rfl ?_
  refine sj_getI fdJ19_205_47 hf dJ19_intValue_1 (fun v1 hf => ?_)
  exact sj_iret (o := sd_oI) hf rfl rfl rfl dJ19_intValue_4
/-! java/util/AbstractMap.<init>()V -/
abbrev cJ21_init : ByteArray := prog_79_method_1_code
def yJ21_init : MethodName := ⟨RJ21, "<init>", "()V"⟩
theorem dJ21_init_0 : decode cJ21_init 0 = .ok (.aload_n 0, 1) := by decide +kernel
theorem dJ21_init_1 : decode cJ21_init 1 = .ok (.invokespecial 1, 3) := by decide +kernel
theorem dJ21_init_4 : decode cJ21_init 4 = .ok (.return_, 1) := by decide +kernel
abbrev mJ21_init : sd_Y := (yJ21_init, cJ21_init, 1, none, none)
def fJ21_init (G : sd_G) (a0 : Nat) : sd_M Unit :=
  sd_ret ()
set_option maxHeartbeats 4000000 in
theorem sJ21_init (l : Launch) (G : sd_G) (a0 : Nat) (h : sd_H) (ρ : Unit) (cT : Nat × Nat) (h2 : sd_H) (hf : fJ21_init G a0 h = some (ρ, cT, h2)) : sd_Met mJ21_init ((l, G), (1, 12), [.ref a0], (sd_oV ρ, h2), cT) h := by
  refine sd_entry (plainFor_of_name rfl) rfl (Nat.le_of_ble_eq_true rfl) ?_
  show sd_J mJ21_init ((l, G), (1, 12), [.ref a0], (sd_oV ρ, h2), cT) 0 [(0, .ref a0)] [] h cT
  unfold fJ21_init at hf
  refine sj_aload_n 0 dJ21_init_0 rfl ?_
  refine sj_objInit q935 q188 q189 (Nat.le_of_ble_eq_true rfl) (Nat.le_of_ble_eq_true rfl) dJ21_init_1 ?_
  exact sj_vret (o := sd_oV) hf rfl rfl rfl dJ21_init_4
/-! java/util/HashMap.<init>()V -/
abbrev cJ22_init : ByteArray := prog_84_method_7_code
def yJ22_init : MethodName := ⟨RJ22, "<init>", "()V"⟩
def dkwJ22_init_0 : List UInt8 := [42, 183, 0, 43, 42, 18, 92, 181, 0, 81, 177]
abbrev dktJ22_init_0 : List UInt8 := dkwJ22_init_0 ++ []
theorem dksJ22_init_0 : cJ22_init.data.toList.drop 0 = dktJ22_init_0 := by decide +kernel
theorem dJ22_init_0 : decode cJ22_init 0 = .ok (.aload_n 0, 1) := dk_42 (dk_at dksJ22_init_0 0 rfl rfl)
theorem dJ22_init_1 : decode cJ22_init 1 = .ok (.invokespecial 43, 3) := dk_183 0 43 (dk_at dksJ22_init_0 1 rfl rfl)
theorem dJ22_init_4 : decode cJ22_init 4 = .ok (.aload_n 0, 1) := dk_42 (dk_at dksJ22_init_0 4 rfl rfl)
theorem dJ22_init_5 : decode cJ22_init 5 = .ok (.ldc 92, 2) := dk_18 92 (dk_at dksJ22_init_0 5 rfl rfl)
theorem dJ22_init_7 : decode cJ22_init 7 = .ok (.putfield 81, 3) := dk_181 0 81 (dk_at dksJ22_init_0 7 rfl rfl)
theorem dJ22_init_10 : decode cJ22_init 10 = .ok (.return_, 1) := dk_177 (dk_at dksJ22_init_0 10 rfl rfl)
theorem fpJ22_init_81 : sd_Fp yJ22_init 81 43 7 .float := ⟨(RJ22, TJ22, 8), "java/util/HashMap", tyJ22, rfl, by decide, rfl, in_J22, Or.inl rfl, tyJ22_ok, nmJ22, rfl, Or.inr ⟨rfl, rfl, rfl, q941⟩⟩
abbrev mJ22_init : sd_Y := (yJ22_init, cJ22_init, 1, none, none)
def fJ22_init (G : sd_G) (a0 : Nat) : sd_M Unit :=
  sd_bnd (fJ21_init G a0) fun _ =>
  sd_bnd (sd_put 43 7 .float a0 (.float 1061158912)) fun _ =>
  sd_ret ()
set_option maxHeartbeats 4000000 in
theorem sJ22_init (l : Launch) (G : sd_G) (a0 : Nat) (h : sd_H) (ρ : Unit) (cT : Nat × Nat) (h2 : sd_H) (hf : fJ22_init G a0 h = some (ρ, cT, h2)) : sd_Met mJ22_init ((l, G), (2, 32), [.ref a0], (sd_oV ρ, h2), cT) h := by
  refine sd_entry (plainFor_of_name rfl) rfl (Nat.le_of_ble_eq_true rfl) ?_
  show sd_J mJ22_init ((l, G), (2, 32), [.ref a0], (sd_oV ρ, h2), cT) 0 [(0, .ref a0)] [] h cT
  unfold fJ22_init at hf
  refine sj_aload_n 0 dJ22_init_0 rfl ?_
  refine sj_cV (rest := []) (fun _ _ _ e => sj_runI (n := 0) (a := a0) (As := []) (rest := []) (sJ21_init l G a0 h _ _ _ e) rfl rfl q932 q933 q148 q934 rfl (by decide +kernel) rfl rfl (fun _ z => by cases z) ⟨Nat.le_of_ble_eq_true rfl, Nat.le_of_ble_eq_true rfl⟩ rfl (Nat.le_of_ble_eq_true rfl) dJ22_init_1) hf (fun h c hf => ?_)
  refine sj_aload_n 0 dJ22_init_4 rfl ?_
  refine sj_ldcf q936 dJ22_init_5 ?_
  refine sj_put fpJ22_init_81 hf dJ22_init_7 (fun h hf => ?_)
  exact sj_vret (o := sd_oV) hf rfl rfl rfl dJ22_init_10
/-! java/util/HashMap.size()I -/
abbrev cJ22_size : ByteArray := prog_84_method_10_code
def yJ22_size : MethodName := ⟨RJ22, "size", "()I"⟩
theorem dJ22_size_0 : decode cJ22_size 0 = .ok (.aload_n 0, 1) := by decide +kernel
theorem dJ22_size_1 : decode cJ22_size 1 = .ok (.getfield 156, 3) := by decide +kernel
theorem dJ22_size_4 : decode cJ22_size 4 = .ok (.ireturn, 1) := by decide +kernel
theorem fdJ22_156_43 : sd_Fd "java/util/HashMap" 156 43 4 := ⟨(RJ22, TJ22, 8), "java/util/HashMap", rfl, by decide, rfl, in_J22, Or.inl rfl, Or.inl q938⟩
abbrev mJ22_size : sd_Y := (yJ22_size, cJ22_size, 1, some (.int), none)
def fJ22_size (G : sd_G) (a0 : Nat) : sd_M Int32 :=
  sd_bnd (sd_getI G 43 4 a0) fun v1 =>
  sd_ret v1
set_option maxHeartbeats 4000000 in
theorem sJ22_size (l : Launch) (G : sd_G) (a0 : Nat) (h : sd_H) (ρ : Int32) (cT : Nat × Nat) (h2 : sd_H) (hf : fJ22_size G a0 h = some (ρ, cT, h2)) : sd_Met mJ22_size ((l, G), (0, 0), [.ref a0], (sd_oI ρ, h2), cT) h := by
  refine sd_entry (plainFor_of_name rfl) rfl (Nat.le_of_ble_eq_true rfl) ?_
  show sd_J mJ22_size ((l, G), (0, 0), [.ref a0], (sd_oI ρ, h2), cT) 0 [(0, .ref a0)] [] h cT
  unfold fJ22_size at hf
  refine sj_aload_n 0 dJ22_size_0 rfl ?_
  refine sj_getI fdJ22_156_43 hf dJ22_size_1 (fun v1 hf => ?_)
  exact sj_iret (o := sd_oI) hf rfl rfl rfl dJ22_size_4
/-! java/util/HashMap.hash(Ljava/lang/Object;)I -/
abbrev cJ22_hash : ByteArray := prog_84_method_1_code
def yJ22_hash : MethodName := ⟨RJ22, "hash", "(Ljava/lang/Object;)I"⟩
def dkwJ22_hash_0 : List UInt8 := [42, 199, 0, 7, 3, 167, 0, 14, 42, 182, 0, 1, 89, 60, 27, 16, 16, 124, 130, 172]
abbrev dktJ22_hash_0 : List UInt8 := dkwJ22_hash_0 ++ []
theorem dksJ22_hash_0 : cJ22_hash.data.toList.drop 0 = dktJ22_hash_0 := by decide +kernel
theorem dJ22_hash_0 : decode cJ22_hash 0 = .ok (.aload_n 0, 1) := dk_42 (dk_at dksJ22_hash_0 0 rfl rfl)
theorem dJ22_hash_1 : decode cJ22_hash 1 = .ok (.ifnonnull 7, 3) := dk_199 0 7 (dk_at dksJ22_hash_0 1 rfl rfl)
theorem dJ22_hash_4 : decode cJ22_hash 4 = .ok (.iconst 0, 1) := dk_3 (dk_at dksJ22_hash_0 4 rfl rfl)
theorem dJ22_hash_5 : decode cJ22_hash 5 = .ok (.goto 14, 3) := dk_167 0 14 (dk_at dksJ22_hash_0 5 rfl rfl)
theorem dJ22_hash_8 : decode cJ22_hash 8 = .ok (.aload_n 0, 1) := dk_42 (dk_at dksJ22_hash_0 8 rfl rfl)
theorem dJ22_hash_9 : decode cJ22_hash 9 = .ok (.invokevirtual 1, 3) := dk_182 0 1 (dk_at dksJ22_hash_0 9 rfl rfl)
theorem dJ22_hash_12 : decode cJ22_hash 12 = .ok (.dup, 1) := dk_89 (dk_at dksJ22_hash_0 12 rfl rfl)
theorem dJ22_hash_13 : decode cJ22_hash 13 = .ok (.istore_n 1, 1) := dk_60 (dk_at dksJ22_hash_0 13 rfl rfl)
theorem dJ22_hash_14 : decode cJ22_hash 14 = .ok (.iload_n 1, 1) := dk_27 (dk_at dksJ22_hash_0 14 rfl rfl)
theorem dJ22_hash_15 : decode cJ22_hash 15 = .ok (.bipush 16, 2) := dk_16 16 (dk_at dksJ22_hash_0 15 rfl rfl)
theorem dJ22_hash_17 : decode cJ22_hash 17 = .ok (.iushr, 1) := dk_124 (dk_at dksJ22_hash_0 17 rfl rfl)
theorem dJ22_hash_18 : decode cJ22_hash 18 = .ok (.ixor, 1) := dk_130 (dk_at dksJ22_hash_0 18 rfl rfl)
theorem dJ22_hash_19 : decode cJ22_hash 19 = .ok (.ireturn, 1) := dk_172 (dk_at dksJ22_hash_0 19 rfl rfl)
abbrev mJ22_hash : sd_Y := (yJ22_hash, cJ22_hash, 2, some (.int), none)
def fJ22_hash (G : sd_G) (a1 : Nat) : sd_M Int32 :=
  sd_bnd (sd_isC G 45 a1) fun _ =>
  sd_bnd (fJ14_hashCode G a1) fun r1 =>
  sd_bnd (sd_ret ((r1.toUInt32 >>> ((16 : Int32).toUInt32 &&& Int32.toUInt32 31)).toInt32)) fun x2 =>
  sd_ret (r1 ^^^ x2)
set_option maxHeartbeats 4000000 in
theorem sJ22_hash (l : Launch) (G : sd_G) (a1 : Nat) (h : sd_H) (ρ : Int32) (cT : Nat × Nat) (h2 : sd_H) (hf : fJ22_hash G a1 h = some (ρ, cT, h2)) : sd_Met mJ22_hash ((l, G), (4, 90), [.ref a1], (sd_oI ρ, h2), cT) h := by
  refine sd_entry (plainFor_of_name rfl) rfl (Nat.le_of_ble_eq_true rfl) ?_
  show sd_J mJ22_hash ((l, G), (4, 90), [.ref a1], (sd_oI ρ, h2), cT) 0 [(0, .ref a1)] [] h cT
  unfold fJ22_hash at hf
  refine sj_aload_n 0 dJ22_hash_0 rfl ?_
  refine sj_ifnonnullR 8 dJ22_hash_1 (by decide) ?_
  refine sj_aload_n 0 dJ22_hash_8 rfl ?_
  obtain ⟨fs9, he9, hf⟩ := sd_isC_some hf
  refine sj_cI (rest := []) (fun _ _ _ e => sj_runU (n := 0) (owner := "java/lang/Object") (As := []) (rest := []) (sJ14_hashCode l G a1 h _ _ _ e) he9 rfl rfl rfl q1118 q1120 q1177 q1178 q141 q1179 (Or.inr (Or.inl q1117)) (by decide +kernel) rfl rfl (fun _ z => by cases z) ⟨Nat.le_of_ble_eq_true rfl, Nat.le_of_ble_eq_true rfl⟩ rfl (Nat.le_of_ble_eq_true rfl) dJ22_hash_9) hf (fun r1 h c hf => ?_)
  refine sj_dup dJ22_hash_12 rfl ?_
  refine sj_istore_n [(1, .int r1), (0, .ref a1)] dJ22_hash_13 (by decide) rfl ?_
  refine sj_iload_n 0 dJ22_hash_14 rfl ?_
  refine sj_bipush (v := 16) dJ22_hash_15 (by decide) ?_
  refine sj_iushr dJ22_hash_17 ?_
  refine sj_nameI hf (fun x2 hf => ?_)
  refine sj_ixor dJ22_hash_18 ?_
  exact sj_iret (o := sd_oI) hf rfl rfl rfl dJ22_hash_19
/-! java/util/HashMap.getNode(Ljava/lang/Object;)Ljava/util/HashMap$Node; -/
abbrev cJ22_getNode : ByteArray := prog_84_method_13_code
def yJ22_getNode : MethodName := ⟨RJ22, "getNode", "(Ljava/lang/Object;)Ljava/util/HashMap$Node;"⟩
def dkwJ22_getNode_6 : List UInt8 := [89, 58, 4, 199, 255, 210, 1, 176]
abbrev dktJ22_getNode_6 : List UInt8 := dkwJ22_getNode_6 ++ []
def dkwJ22_getNode_5 : List UInt8 := [165, 0, 16, 43, 198, 0, 15, 43, 25, 7, 182, 0, 173, 153, 0, 6, 25, 4, 176, 25, 4, 180, 0, 177]
abbrev dktJ22_getNode_5 : List UInt8 := dkwJ22_getNode_5 ++ dktJ22_getNode_6
def dkwJ22_getNode_4 : List UInt8 := [43, 182, 0, 182, 176, 25, 4, 180, 0, 168, 21, 6, 160, 0, 31, 25, 4, 180, 0, 170, 89, 58, 7, 43]
abbrev dktJ22_getNode_4 : List UInt8 := dkwJ22_getNode_4 ++ dktJ22_getNode_5
def dkwJ22_getNode_3 : List UInt8 := [176, 45, 180, 0, 177, 89, 58, 4, 198, 0, 70, 45, 193, 0, 180, 153, 0, 14, 45, 192, 0, 180, 21, 6]
abbrev dktJ22_getNode_3 : List UInt8 := dkwJ22_getNode_3 ++ dktJ22_getNode_4
def dkwJ22_getNode_2 : List UInt8 := [180, 0, 170, 89, 58, 7, 43, 165, 0, 16, 43, 198, 0, 14, 43, 25, 7, 182, 0, 173, 153, 0, 5, 45]
abbrev dktJ22_getNode_2 : List UInt8 := dkwJ22_getNode_2 ++ dktJ22_getNode_3
def dkwJ22_getNode_1 : List UInt8 := [184, 0, 149, 89, 54, 6, 126, 50, 89, 78, 198, 0, 115, 45, 180, 0, 168, 21, 6, 160, 0, 29, 45]
abbrev dktJ22_getNode_1 : List UInt8 := dkwJ22_getNode_1 ++ dktJ22_getNode_2
def dkwJ22_getNode_0 : List UInt8 := [42, 180, 0, 105, 89, 77, 198, 0, 142, 44, 190, 89, 54, 5, 158, 0, 134, 44, 21, 5, 4, 100, 43]
abbrev dktJ22_getNode_0 : List UInt8 := dkwJ22_getNode_0 ++ dktJ22_getNode_1
theorem dksJ22_getNode_0 : cJ22_getNode.data.toList.drop 0 = dktJ22_getNode_0 := by decide +kernel
theorem dksJ22_getNode_1 : cJ22_getNode.data.toList.drop 23 = dktJ22_getNode_1 := dk_seg dksJ22_getNode_0 23 rfl rfl
theorem dksJ22_getNode_2 : cJ22_getNode.data.toList.drop 46 = dktJ22_getNode_2 := dk_seg dksJ22_getNode_1 23 rfl rfl
theorem dksJ22_getNode_3 : cJ22_getNode.data.toList.drop 70 = dktJ22_getNode_3 := dk_seg dksJ22_getNode_2 24 rfl rfl
theorem dksJ22_getNode_4 : cJ22_getNode.data.toList.drop 94 = dktJ22_getNode_4 := dk_seg dksJ22_getNode_3 24 rfl rfl
theorem dksJ22_getNode_5 : cJ22_getNode.data.toList.drop 118 = dktJ22_getNode_5 := dk_seg dksJ22_getNode_4 24 rfl rfl
theorem dksJ22_getNode_6 : cJ22_getNode.data.toList.drop 142 = dktJ22_getNode_6 := dk_seg dksJ22_getNode_5 24 rfl rfl
theorem dJ22_getNode_0 : decode cJ22_getNode 0 = .ok (.aload_n 0, 1) := dk_42 (dk_at dksJ22_getNode_0 0 rfl rfl)
theorem dJ22_getNode_1 : decode cJ22_getNode 1 = .ok (.getfield 105, 3) := dk_180 0 105 (dk_at dksJ22_getNode_0 1 rfl rfl)
theorem dJ22_getNode_4 : decode cJ22_getNode 4 = .ok (.dup, 1) := dk_89 (dk_at dksJ22_getNode_0 4 rfl rfl)
theorem dJ22_getNode_5 : decode cJ22_getNode 5 = .ok (.astore_n 2, 1) := dk_77 (dk_at dksJ22_getNode_0 5 rfl rfl)
theorem dJ22_getNode_6 : decode cJ22_getNode 6 = .ok (.ifnull 142, 3) := dk_198 0 142 (dk_at dksJ22_getNode_0 6 rfl rfl)
theorem dJ22_getNode_9 : decode cJ22_getNode 9 = .ok (.aload_n 2, 1) := dk_44 (dk_at dksJ22_getNode_0 9 rfl rfl)
theorem dJ22_getNode_10 : decode cJ22_getNode 10 = .ok (.arraylength, 1) := dk_190 (dk_at dksJ22_getNode_0 10 rfl rfl)
theorem dJ22_getNode_11 : decode cJ22_getNode 11 = .ok (.dup, 1) := dk_89 (dk_at dksJ22_getNode_0 11 rfl rfl)
theorem dJ22_getNode_12 : decode cJ22_getNode 12 = .ok (.istore 5, 2) := dk_54 5 (dk_at dksJ22_getNode_0 12 rfl rfl)
theorem dJ22_getNode_14 : decode cJ22_getNode 14 = .ok (.ifCond .le 134, 3) := dk_158 0 134 (dk_at dksJ22_getNode_0 14 rfl rfl)
theorem dJ22_getNode_17 : decode cJ22_getNode 17 = .ok (.aload_n 2, 1) := dk_44 (dk_at dksJ22_getNode_0 17 rfl rfl)
theorem dJ22_getNode_18 : decode cJ22_getNode 18 = .ok (.iload 5, 2) := dk_21 5 (dk_at dksJ22_getNode_0 18 rfl rfl)
theorem dJ22_getNode_20 : decode cJ22_getNode 20 = .ok (.iconst 1, 1) := dk_4 (dk_at dksJ22_getNode_0 20 rfl rfl)
theorem dJ22_getNode_21 : decode cJ22_getNode 21 = .ok (.isub, 1) := dk_100 (dk_at dksJ22_getNode_0 21 rfl rfl)
theorem dJ22_getNode_22 : decode cJ22_getNode 22 = .ok (.aload_n 1, 1) := dk_43 (dk_at dksJ22_getNode_0 22 rfl rfl)
theorem dJ22_getNode_23 : decode cJ22_getNode 23 = .ok (.invokestatic 149, 3) := dk_184 0 149 (dk_at dksJ22_getNode_1 0 rfl rfl)
theorem dJ22_getNode_26 : decode cJ22_getNode 26 = .ok (.dup, 1) := dk_89 (dk_at dksJ22_getNode_1 3 rfl rfl)
theorem dJ22_getNode_27 : decode cJ22_getNode 27 = .ok (.istore 6, 2) := dk_54 6 (dk_at dksJ22_getNode_1 4 rfl rfl)
theorem dJ22_getNode_29 : decode cJ22_getNode 29 = .ok (.iand, 1) := dk_126 (dk_at dksJ22_getNode_1 6 rfl rfl)
theorem dJ22_getNode_30 : decode cJ22_getNode 30 = .ok (.aaload, 1) := dk_50 (dk_at dksJ22_getNode_1 7 rfl rfl)
theorem dJ22_getNode_31 : decode cJ22_getNode 31 = .ok (.dup, 1) := dk_89 (dk_at dksJ22_getNode_1 8 rfl rfl)
theorem dJ22_getNode_32 : decode cJ22_getNode 32 = .ok (.astore_n 3, 1) := dk_78 (dk_at dksJ22_getNode_1 9 rfl rfl)
theorem dJ22_getNode_33 : decode cJ22_getNode 33 = .ok (.ifnull 115, 3) := dk_198 0 115 (dk_at dksJ22_getNode_1 10 rfl rfl)
theorem dJ22_getNode_36 : decode cJ22_getNode 36 = .ok (.aload_n 3, 1) := dk_45 (dk_at dksJ22_getNode_1 13 rfl rfl)
theorem dJ22_getNode_37 : decode cJ22_getNode 37 = .ok (.getfield 168, 3) := dk_180 0 168 (dk_at dksJ22_getNode_1 14 rfl rfl)
theorem dJ22_getNode_40 : decode cJ22_getNode 40 = .ok (.iload 6, 2) := dk_21 6 (dk_at dksJ22_getNode_1 17 rfl rfl)
theorem dJ22_getNode_42 : decode cJ22_getNode 42 = .ok (.if_icmp .ne 29, 3) := dk_160 0 29 (dk_at dksJ22_getNode_1 19 rfl rfl)
theorem dJ22_getNode_45 : decode cJ22_getNode 45 = .ok (.aload_n 3, 1) := dk_45 (dk_at dksJ22_getNode_1 22 rfl rfl)
theorem dJ22_getNode_46 : decode cJ22_getNode 46 = .ok (.getfield 170, 3) := dk_180 0 170 (dk_at dksJ22_getNode_2 0 rfl rfl)
theorem dJ22_getNode_49 : decode cJ22_getNode 49 = .ok (.dup, 1) := dk_89 (dk_at dksJ22_getNode_2 3 rfl rfl)
theorem dJ22_getNode_50 : decode cJ22_getNode 50 = .ok (.astore 7, 2) := dk_58 7 (dk_at dksJ22_getNode_2 4 rfl rfl)
theorem dJ22_getNode_52 : decode cJ22_getNode 52 = .ok (.aload_n 1, 1) := dk_43 (dk_at dksJ22_getNode_2 6 rfl rfl)
theorem dJ22_getNode_53 : decode cJ22_getNode 53 = .ok (.if_acmp .eq 16, 3) := dk_165 0 16 (dk_at dksJ22_getNode_2 7 rfl rfl)
theorem dJ22_getNode_56 : decode cJ22_getNode 56 = .ok (.aload_n 1, 1) := dk_43 (dk_at dksJ22_getNode_2 10 rfl rfl)
theorem dJ22_getNode_57 : decode cJ22_getNode 57 = .ok (.ifnull 14, 3) := dk_198 0 14 (dk_at dksJ22_getNode_2 11 rfl rfl)
theorem dJ22_getNode_60 : decode cJ22_getNode 60 = .ok (.aload_n 1, 1) := dk_43 (dk_at dksJ22_getNode_2 14 rfl rfl)
theorem dJ22_getNode_61 : decode cJ22_getNode 61 = .ok (.aload 7, 2) := dk_25 7 (dk_at dksJ22_getNode_2 15 rfl rfl)
theorem dJ22_getNode_63 : decode cJ22_getNode 63 = .ok (.invokevirtual 173, 3) := dk_182 0 173 (dk_at dksJ22_getNode_2 17 rfl rfl)
theorem dJ22_getNode_66 : decode cJ22_getNode 66 = .ok (.ifCond .eq 5, 3) := dk_153 0 5 (dk_at dksJ22_getNode_2 20 rfl rfl)
theorem dJ22_getNode_69 : decode cJ22_getNode 69 = .ok (.aload_n 3, 1) := dk_45 (dk_at dksJ22_getNode_2 23 rfl rfl)
theorem dJ22_getNode_70 : decode cJ22_getNode 70 = .ok (.areturn, 1) := dk_176 (dk_at dksJ22_getNode_3 0 rfl rfl)
theorem dJ22_getNode_71 : decode cJ22_getNode 71 = .ok (.aload_n 3, 1) := dk_45 (dk_at dksJ22_getNode_3 1 rfl rfl)
theorem dJ22_getNode_72 : decode cJ22_getNode 72 = .ok (.getfield 177, 3) := dk_180 0 177 (dk_at dksJ22_getNode_3 2 rfl rfl)
theorem dJ22_getNode_75 : decode cJ22_getNode 75 = .ok (.dup, 1) := dk_89 (dk_at dksJ22_getNode_3 5 rfl rfl)
theorem dJ22_getNode_76 : decode cJ22_getNode 76 = .ok (.astore 4, 2) := dk_58 4 (dk_at dksJ22_getNode_3 6 rfl rfl)
theorem dJ22_getNode_78 : decode cJ22_getNode 78 = .ok (.ifnull 70, 3) := dk_198 0 70 (dk_at dksJ22_getNode_3 8 rfl rfl)
theorem dJ22_getNode_81 : decode cJ22_getNode 81 = .ok (.aload_n 3, 1) := dk_45 (dk_at dksJ22_getNode_3 11 rfl rfl)
theorem dJ22_getNode_82 : decode cJ22_getNode 82 = .ok (.instanceof 180, 3) := dk_193 0 180 (dk_at dksJ22_getNode_3 12 rfl rfl)
theorem dJ22_getNode_85 : decode cJ22_getNode 85 = .ok (.ifCond .eq 14, 3) := dk_153 0 14 (dk_at dksJ22_getNode_3 15 rfl rfl)
theorem dJ22_getNode_88 : decode cJ22_getNode 88 = .ok (.aload_n 3, 1) := dk_45 (dk_at dksJ22_getNode_3 18 rfl rfl)
theorem dJ22_getNode_89 : decode cJ22_getNode 89 = .ok (.checkcast 180, 3) := dk_192 0 180 (dk_at dksJ22_getNode_3 19 rfl rfl)
theorem dJ22_getNode_92 : decode cJ22_getNode 92 = .ok (.iload 6, 2) := dk_21 6 (dk_at dksJ22_getNode_3 22 rfl rfl)
theorem dJ22_getNode_94 : decode cJ22_getNode 94 = .ok (.aload_n 1, 1) := dk_43 (dk_at dksJ22_getNode_4 0 rfl rfl)
theorem dJ22_getNode_95 : decode cJ22_getNode 95 = .ok (.invokevirtual 182, 3) := dk_182 0 182 (dk_at dksJ22_getNode_4 1 rfl rfl)
theorem dJ22_getNode_98 : decode cJ22_getNode 98 = .ok (.areturn, 1) := dk_176 (dk_at dksJ22_getNode_4 4 rfl rfl)
theorem dJ22_getNode_99 : decode cJ22_getNode 99 = .ok (.aload 4, 2) := dk_25 4 (dk_at dksJ22_getNode_4 5 rfl rfl)
theorem dJ22_getNode_101 : decode cJ22_getNode 101 = .ok (.getfield 168, 3) := dk_180 0 168 (dk_at dksJ22_getNode_4 7 rfl rfl)
theorem dJ22_getNode_104 : decode cJ22_getNode 104 = .ok (.iload 6, 2) := dk_21 6 (dk_at dksJ22_getNode_4 10 rfl rfl)
theorem dJ22_getNode_106 : decode cJ22_getNode 106 = .ok (.if_icmp .ne 31, 3) := dk_160 0 31 (dk_at dksJ22_getNode_4 12 rfl rfl)
theorem dJ22_getNode_109 : decode cJ22_getNode 109 = .ok (.aload 4, 2) := dk_25 4 (dk_at dksJ22_getNode_4 15 rfl rfl)
theorem dJ22_getNode_111 : decode cJ22_getNode 111 = .ok (.getfield 170, 3) := dk_180 0 170 (dk_at dksJ22_getNode_4 17 rfl rfl)
theorem dJ22_getNode_114 : decode cJ22_getNode 114 = .ok (.dup, 1) := dk_89 (dk_at dksJ22_getNode_4 20 rfl rfl)
theorem dJ22_getNode_115 : decode cJ22_getNode 115 = .ok (.astore 7, 2) := dk_58 7 (dk_at dksJ22_getNode_4 21 rfl rfl)
theorem dJ22_getNode_117 : decode cJ22_getNode 117 = .ok (.aload_n 1, 1) := dk_43 (dk_at dksJ22_getNode_4 23 rfl rfl)
theorem dJ22_getNode_118 : decode cJ22_getNode 118 = .ok (.if_acmp .eq 16, 3) := dk_165 0 16 (dk_at dksJ22_getNode_5 0 rfl rfl)
theorem dJ22_getNode_121 : decode cJ22_getNode 121 = .ok (.aload_n 1, 1) := dk_43 (dk_at dksJ22_getNode_5 3 rfl rfl)
theorem dJ22_getNode_122 : decode cJ22_getNode 122 = .ok (.ifnull 15, 3) := dk_198 0 15 (dk_at dksJ22_getNode_5 4 rfl rfl)
theorem dJ22_getNode_125 : decode cJ22_getNode 125 = .ok (.aload_n 1, 1) := dk_43 (dk_at dksJ22_getNode_5 7 rfl rfl)
theorem dJ22_getNode_126 : decode cJ22_getNode 126 = .ok (.aload 7, 2) := dk_25 7 (dk_at dksJ22_getNode_5 8 rfl rfl)
theorem dJ22_getNode_128 : decode cJ22_getNode 128 = .ok (.invokevirtual 173, 3) := dk_182 0 173 (dk_at dksJ22_getNode_5 10 rfl rfl)
theorem dJ22_getNode_131 : decode cJ22_getNode 131 = .ok (.ifCond .eq 6, 3) := dk_153 0 6 (dk_at dksJ22_getNode_5 13 rfl rfl)
theorem dJ22_getNode_134 : decode cJ22_getNode 134 = .ok (.aload 4, 2) := dk_25 4 (dk_at dksJ22_getNode_5 16 rfl rfl)
theorem dJ22_getNode_136 : decode cJ22_getNode 136 = .ok (.areturn, 1) := dk_176 (dk_at dksJ22_getNode_5 18 rfl rfl)
theorem dJ22_getNode_137 : decode cJ22_getNode 137 = .ok (.aload 4, 2) := dk_25 4 (dk_at dksJ22_getNode_5 19 rfl rfl)
theorem dJ22_getNode_139 : decode cJ22_getNode 139 = .ok (.getfield 177, 3) := dk_180 0 177 (dk_at dksJ22_getNode_5 21 rfl rfl)
theorem dJ22_getNode_142 : decode cJ22_getNode 142 = .ok (.dup, 1) := dk_89 (dk_at dksJ22_getNode_6 0 rfl rfl)
theorem dJ22_getNode_143 : decode cJ22_getNode 143 = .ok (.astore 4, 2) := dk_58 4 (dk_at dksJ22_getNode_6 1 rfl rfl)
theorem dJ22_getNode_145 : decode cJ22_getNode 145 = .ok (.ifnonnull (-46), 3) := dk_199 255 210 (dk_at dksJ22_getNode_6 3 rfl rfl)
theorem dJ22_getNode_148 : decode cJ22_getNode 148 = .ok (.aconst_null, 1) := dk_1 (dk_at dksJ22_getNode_6 6 rfl rfl)
theorem dJ22_getNode_149 : decode cJ22_getNode 149 = .ok (.areturn, 1) := dk_176 (dk_at dksJ22_getNode_6 7 rfl rfl)
theorem fdJ22_105_43 : sd_Fd "java/util/HashMap" 105 43 2 := ⟨(RJ22, TJ22, 8), "java/util/HashMap", rfl, by decide, rfl, in_J22, Or.inl rfl, Or.inl q937⟩
theorem fdJ22_168_44 : sd_Fd "java/util/HashMap" 168 44 0 := ⟨(RJ26, TJ26, 4), "java/util/HashMap$Node", rfl, by decide, rfl, in_J26, Or.inl rfl, Or.inl q1700⟩
theorem fdJ22_177_44 : sd_Fd "java/util/HashMap" 177 44 3 := ⟨(RJ26, TJ26, 4), "java/util/HashMap$Node", rfl, by decide, rfl, in_J26, Or.inl rfl, Or.inl q1711⟩
theorem fdJ22_170_44 : sd_Fd "java/util/HashMap" 170 44 1 := ⟨(RJ26, TJ26, 4), "java/util/HashMap$Node", rfl, by decide, rfl, in_J26, Or.inl rfl, Or.inl q1704⟩
abbrev mJ22_getNode : sd_Y := (yJ22_getNode, cJ22_getNode, 8, some (.object "java/util/HashMap$Node"), none)
def fJ22_getNode_b99 (G : sd_G) (k99 : Nat × Nat × Int32 → sd_M (Option Nat)) (w1 : Nat) (w4 : Nat) (w6 : Int32) : sd_M (Option Nat) :=
  sd_bnd (sd_getI G 44 0 w4) fun v10 =>
  if v10 = w6 then (
    sd_bnd (sd_getR G 44 1 w4) fun v13 =>
    if v13 = w1 then (
      sd_ret (some w4))
    else (
      sd_bnd (sd_isC G 45 w1) fun _ =>
      sd_bnd (fJ14_equals G w1 v13) fun r14 =>
      if r14 = 0 then (
        sd_bnd (sd_getQ G 44 3 w4) fun v15 =>
        match v15 with
        | none =>
          sd_ret none
        | some p16 =>
          k99 (w1, p16, w6))
      else (
        sd_ret (some w4))))
  else (
    sd_bnd (sd_getQ G 44 3 w4) fun v11 =>
    match v11 with
    | none =>
      sd_ret none
    | some p12 =>
      k99 (w1, p12, w6))
set_option maxHeartbeats 4000000 in
theorem sJ22_getNode_b99 (l : Launch) (G : sd_G) (a0 : Nat) (a1 : Nat) (ρ : Option Nat) (h2 : sd_H) (cT : Nat × Nat) (k99 : Nat × Nat × Int32 → sd_M (Option Nat)) (Hk99 : ∀ (q : Nat × Nat × Int32) (h : sd_H) (c : Nat × Nat), k99 q h = some (ρ, c, h2) → sd_J mJ22_getNode ((l, G), (5, 111), [.ref a0, .ref a1], (sd_oQ ρ, h2), cT) 99 [(1, .ref q.1), (4, .ref q.2.1), (6, .int q.2.2)] [] h c) (w1 : Nat) (w4 : Nat) (w6 : Int32) (h : sd_H) (c : Nat × Nat) (hf : fJ22_getNode_b99 G k99 w1 w4 w6 h = some (ρ, c, h2)) : sd_J mJ22_getNode ((l, G), (5, 111), [.ref a0, .ref a1], (sd_oQ ρ, h2), cT) 99 [(1, .ref w1), (4, .ref w4), (6, .int w6)] [] h c := by
  unfold fJ22_getNode_b99 at hf
  refine sj_aload 1 dJ22_getNode_99 rfl ?_
  refine sj_getI fdJ22_168_44 hf dJ22_getNode_101 (fun v10 hf => ?_)
  refine sj_iload 2 dJ22_getNode_104 rfl ?_
  refine sj_icne 137 hf dJ22_getNode_106 (by decide) (fun g106 hf => ?_) (fun g106 hf => ?_)
  · refine sj_aload 1 dJ22_getNode_137 rfl ?_
    refine sj_getQ fdJ22_177_44 hf dJ22_getNode_139 (fun v11 hf => ?_)
    refine sj_dup dJ22_getNode_142 (sd_cat1 _) ?_
    refine sj_astoreQ [(4, va_rf v11), (1, .ref w1), (6, .int w6)] dJ22_getNode_143 (by decide) rfl ?_
    refine sj_ifnonnull 99 hf dJ22_getNode_145 (by decide) (fun g145 hf => ?_) (fun p12 g145 hf => ?_)
    · refine sj_null dJ22_getNode_148 ?_
      exact sj_aretQ (o := sd_oQ) (x := none) hf rfl rfl rfl (Or.inl ⟨_, rfl⟩) dJ22_getNode_149
    · subst g145
      exact sj_loc [1, 0, 2] rfl (Hk99 (w1, p12, w6) _ _ hf)
  · refine sj_aload 1 dJ22_getNode_109 rfl ?_
    refine sj_getR fdJ22_170_44 hf dJ22_getNode_111 (fun v13 hf => ?_)
    refine sj_dup dJ22_getNode_114 rfl ?_
    refine sj_astore [(7, .ref v13), (1, .ref w1), (4, .ref w4), (6, .int w6)] dJ22_getNode_115 (by decide) rfl ?_
    refine sj_aload_n 1 dJ22_getNode_117 rfl ?_
    refine sj_aceqR 134 hf dJ22_getNode_118 (by decide) (fun g118 hf => ?_) (fun g118 hf => ?_)
    · refine sj_aload 2 dJ22_getNode_134 rfl ?_
      exact sj_aretQ (o := sd_oQ) (x := (some w4)) hf rfl rfl rfl (Or.inl ⟨_, rfl⟩) dJ22_getNode_136
    · refine sj_aload_n 1 dJ22_getNode_121 rfl ?_
      refine sj_ifnullR dJ22_getNode_122 ?_
      refine sj_aload_n 1 dJ22_getNode_125 rfl ?_
      refine sj_aload 0 dJ22_getNode_126 rfl ?_
      obtain ⟨fs128, he128, hf⟩ := sd_isC_some hf
      refine sj_cI (rest := []) (fun _ _ _ e => sj_runU (n := 1) (owner := "java/lang/Object") (As := [.ref v13]) (rest := []) (sJ14_equals l G w1 v13 h _ _ _ e) he128 rfl rfl rfl q1238 q1240 q1296 q852 q141 q854 (Or.inr (Or.inl q1237)) (by decide +kernel) rfl rfl (fun _ z => by cases z) ⟨Nat.le_of_ble_eq_true rfl, Nat.le_of_ble_eq_true rfl⟩ rfl (Nat.le_of_ble_eq_true rfl) dJ22_getNode_128) hf (fun r14 h c hf => ?_)
      refine sj_ifeq 137 hf dJ22_getNode_131 (by decide) (fun g131 hf => ?_) (fun g131 hf => ?_)
      · refine sj_aload 2 dJ22_getNode_137 rfl ?_
        refine sj_getQ fdJ22_177_44 hf dJ22_getNode_139 (fun v15 hf => ?_)
        refine sj_dup dJ22_getNode_142 (sd_cat1 _) ?_
        refine sj_astoreQ [(4, va_rf v15), (7, .ref v13), (1, .ref w1), (6, .int w6)] dJ22_getNode_143 (by decide) rfl ?_
        refine sj_ifnonnull 99 hf dJ22_getNode_145 (by decide) (fun g145 hf => ?_) (fun p16 g145 hf => ?_)
        · refine sj_null dJ22_getNode_148 ?_
          exact sj_aretQ (o := sd_oQ) (x := none) hf rfl rfl rfl (Or.inl ⟨_, rfl⟩) dJ22_getNode_149
        · subst g145
          exact sj_loc [2, 0, 3] rfl (Hk99 (w1, p16, w6) _ _ hf)
      · refine sj_aload 2 dJ22_getNode_134 rfl ?_
        exact sj_aretQ (o := sd_oQ) (x := (some w4)) hf rfl rfl rfl (Or.inl ⟨_, rfl⟩) dJ22_getNode_136
theorem sJ22_getNode_b99_loop (l : Launch) (G : sd_G) (a0 : Nat) (a1 : Nat) (ρ : Option Nat) (h2 : sd_H) (cT : Nat × Nat) (n : Nat) : ∀ (q : Nat × Nat × Int32) (h : sd_H) (c : Nat × Nat), sd_loop (fun k s => fJ22_getNode_b99 G k s.1 s.2.1 s.2.2) n q h = some (ρ, c, h2) → sd_J mJ22_getNode ((l, G), (5, 111), [.ref a0, .ref a1], (sd_oQ ρ, h2), cT) 99 [(1, .ref q.1), (4, .ref q.2.1), (6, .int q.2.2)] [] h c := by
  induction n with
  | zero => intro q h c hf; cases hf
  | succ n ih => intro q h c hf; exact sJ22_getNode_b99 l G a0 a1 ρ h2 cT _ ih _ _ _ _ _ hf
def fJ22_getNode_b71 (G : sd_G) (w1 : Nat) (w3 : Nat) (w6 : Int32) : sd_M (Option Nat) :=
  sd_bnd (sd_getQ G 44 3 w3) fun v8 =>
  match v8 with
  | none =>
    sd_ret none
  | some p9 =>
    sd_bnd (sd_isC G 44 w3) fun _ =>
    sd_loop (fun k s => fJ22_getNode_b99 G k s.1 s.2.1 s.2.2) sd_FU (w1, p9, w6)
set_option maxHeartbeats 4000000 in
theorem sJ22_getNode_b71 (l : Launch) (G : sd_G) (a0 : Nat) (a1 : Nat) (ρ : Option Nat) (h2 : sd_H) (cT : Nat × Nat) (w1 : Nat) (w3 : Nat) (w6 : Int32) (h : sd_H) (c : Nat × Nat) (hf : fJ22_getNode_b71 G w1 w3 w6 h = some (ρ, c, h2)) : sd_J mJ22_getNode ((l, G), (5, 111), [.ref a0, .ref a1], (sd_oQ ρ, h2), cT) 71 [(1, .ref w1), (3, .ref w3), (6, .int w6)] [] h c := by
  unfold fJ22_getNode_b71 at hf
  refine sj_aload_n 1 dJ22_getNode_71 rfl ?_
  refine sj_getQ fdJ22_177_44 hf dJ22_getNode_72 (fun v8 hf => ?_)
  refine sj_dup dJ22_getNode_75 (sd_cat1 _) ?_
  refine sj_astoreQ [(4, va_rf v8), (1, .ref w1), (3, .ref w3), (6, .int w6)] dJ22_getNode_76 (by decide) rfl ?_
  refine sj_ifnull 148 hf dJ22_getNode_78 (by decide) (fun g78 hf => ?_) (fun p9 g78 hf => ?_)
  · refine sj_null dJ22_getNode_148 ?_
    exact sj_aretQ (o := sd_oQ) (x := none) hf rfl rfl rfl (Or.inl ⟨_, rfl⟩) dJ22_getNode_149
  · subst g78
    refine sj_aload_n 2 dJ22_getNode_81 rfl ?_
    obtain ⟨fs82, he82, hf⟩ := sd_isC_some hf
    refine sj_instN he82 rfl (by decide) q1301 dJ22_getNode_82 ?_
    refine sj_ifeqT 99 (by decide) dJ22_getNode_85 (by decide) ?_
    exact sj_loc [1, 0, 3] rfl (sJ22_getNode_b99_loop l G a0 a1 ρ h2 cT sd_FU (w1, p9, w6) _ _ hf)
def fJ22_getNode (G : sd_G) (a0 : Nat) (a1 : Nat) : sd_M (Option Nat) :=
  sd_bnd (sd_getQ G 43 2 a0) fun v1 =>
  match v1 with
  | none =>
    sd_ret none
  | some p2 =>
    sd_bnd (sd_alen G p2) fun v3 =>
    if v3 ≤ 0 then (
      sd_ret none)
    else (
      sd_bnd (fJ22_hash G a1) fun r4 =>
      sd_bnd (sd_aldQ G 5 p2 ((v3 - 1) &&& r4)) fun v5 =>
      match v5 with
      | none =>
        sd_ret none
      | some p6 =>
        sd_bnd (sd_getI G 44 0 p6) fun v7 =>
        if v7 = r4 then (
          sd_bnd (sd_getR G 44 1 p6) fun v17 =>
          if v17 = a1 then (
            sd_ret (some p6))
          else (
            sd_bnd (sd_isC G 45 a1) fun _ =>
            sd_bnd (fJ14_equals G a1 v17) fun r18 =>
            if r18 = 0 then (
              fJ22_getNode_b71 G a1 p6 r4)
            else (
              sd_ret (some p6))))
        else (
          fJ22_getNode_b71 G a1 p6 r4))
set_option maxHeartbeats 4000000 in
theorem sJ22_getNode (l : Launch) (G : sd_G) (a0 : Nat) (a1 : Nat) (h : sd_H) (ρ : Option Nat) (cT : Nat × Nat) (h2 : sd_H) (hf : fJ22_getNode G a0 a1 h = some (ρ, cT, h2)) : sd_Met mJ22_getNode ((l, G), (5, 111), [.ref a0, .ref a1], (sd_oQ ρ, h2), cT) h := by
  refine sd_entry (plainFor_of_name rfl) rfl (Nat.le_of_ble_eq_true rfl) ?_
  show sd_J mJ22_getNode ((l, G), (5, 111), [.ref a0, .ref a1], (sd_oQ ρ, h2), cT) 0 [(0, .ref a0), (1, .ref a1)] [] h cT
  unfold fJ22_getNode at hf
  refine sj_aload_n 0 dJ22_getNode_0 rfl ?_
  refine sj_getQ fdJ22_105_43 hf dJ22_getNode_1 (fun v1 hf => ?_)
  refine sj_dup dJ22_getNode_4 (sd_cat1 _) ?_
  refine sj_astore_nQ [(2, va_rf v1), (0, .ref a0), (1, .ref a1)] dJ22_getNode_5 (by decide) rfl ?_
  refine sj_ifnull 148 hf dJ22_getNode_6 (by decide) (fun g6 hf => ?_) (fun p2 g6 hf => ?_)
  · refine sj_null dJ22_getNode_148 ?_
    exact sj_aretQ (o := sd_oQ) (x := none) hf rfl rfl rfl (Or.inl ⟨_, rfl⟩) dJ22_getNode_149
  · subst g6
    refine sj_aload_n 0 dJ22_getNode_9 rfl ?_
    refine sj_alen hf dJ22_getNode_10 (fun v3 hf => ?_)
    refine sj_dup dJ22_getNode_11 rfl ?_
    refine sj_istore [(5, .int v3), (2, .ref p2), (0, .ref a0), (1, .ref a1)] dJ22_getNode_12 (by decide) rfl ?_
    refine sj_ifle 148 hf dJ22_getNode_14 (by decide) (fun g14 hf => ?_) (fun g14 hf => ?_)
    · refine sj_null dJ22_getNode_148 ?_
      exact sj_aretQ (o := sd_oQ) (x := none) hf rfl rfl rfl (Or.inl ⟨_, rfl⟩) dJ22_getNode_149
    · refine sj_aload_n 1 dJ22_getNode_17 rfl ?_
      refine sj_iload 0 dJ22_getNode_18 rfl ?_
      refine sj_iconst (v := 1) dJ22_getNode_20 (by decide) ?_
      refine sj_isub dJ22_getNode_21 ?_
      refine sj_aload_n 3 dJ22_getNode_22 rfl ?_
      refine sj_cI (rest := [.int (v3 - 1), .ref p2]) (fun _ _ _ e => sj_runS (n := 1) (rest := [.int (v3 - 1), .ref p2]) (sJ22_hash l G a1 h _ _ _ e) rfl rfl q1114 q1115 q149 q1116 (by decide +kernel) rfl ⟨Nat.le_of_ble_eq_true rfl, Nat.le_of_ble_eq_true rfl⟩ rfl (Nat.le_of_ble_eq_true rfl) dJ22_getNode_23) hf (fun r4 h c hf => ?_)
      refine sj_dup dJ22_getNode_26 rfl ?_
      refine sj_istore [(6, .int r4), (5, .int v3), (2, .ref p2), (0, .ref a0), (1, .ref a1)] dJ22_getNode_27 (by decide) rfl ?_
      refine sj_iand dJ22_getNode_29 ?_
      refine sj_aaldQ rfl rfl hf dJ22_getNode_30 (fun v5 hf => ?_)
      refine sj_dup dJ22_getNode_31 (sd_cat1 _) ?_
      refine sj_astore_nQ [(3, va_rf v5), (6, .int r4), (5, .int v3), (2, .ref p2), (0, .ref a0), (1, .ref a1)] dJ22_getNode_32 (by decide) rfl ?_
      refine sj_ifnull 148 hf dJ22_getNode_33 (by decide) (fun g33 hf => ?_) (fun p6 g33 hf => ?_)
      · refine sj_null dJ22_getNode_148 ?_
        exact sj_aretQ (o := sd_oQ) (x := none) hf rfl rfl rfl (Or.inl ⟨_, rfl⟩) dJ22_getNode_149
      · subst g33
        refine sj_aload_n 0 dJ22_getNode_36 rfl ?_
        refine sj_getI fdJ22_168_44 hf dJ22_getNode_37 (fun v7 hf => ?_)
        refine sj_iload 1 dJ22_getNode_40 rfl ?_
        refine sj_icne 71 hf dJ22_getNode_42 (by decide) (fun g42 hf => ?_) (fun g42 hf => ?_)
        · exact sj_loc [5, 0, 1] rfl (sJ22_getNode_b71 l G a0 a1 ρ h2 cT a1 p6 r4 _ _ hf)
        · refine sj_aload_n 0 dJ22_getNode_45 rfl ?_
          refine sj_getR fdJ22_170_44 hf dJ22_getNode_46 (fun v17 hf => ?_)
          refine sj_dup dJ22_getNode_49 rfl ?_
          refine sj_astore [(7, .ref v17), (3, .ref p6), (6, .int r4), (5, .int v3), (2, .ref p2), (0, .ref a0), (1, .ref a1)] dJ22_getNode_50 (by decide) rfl ?_
          refine sj_aload_n 6 dJ22_getNode_52 rfl ?_
          refine sj_aceqR 69 hf dJ22_getNode_53 (by decide) (fun g53 hf => ?_) (fun g53 hf => ?_)
          · refine sj_aload_n 1 dJ22_getNode_69 rfl ?_
            exact sj_aretQ (o := sd_oQ) (x := (some p6)) hf rfl rfl rfl (Or.inl ⟨_, rfl⟩) dJ22_getNode_70
          · refine sj_aload_n 6 dJ22_getNode_56 rfl ?_
            refine sj_ifnullR dJ22_getNode_57 ?_
            refine sj_aload_n 6 dJ22_getNode_60 rfl ?_
            refine sj_aload 0 dJ22_getNode_61 rfl ?_
            obtain ⟨fs63, he63, hf⟩ := sd_isC_some hf
            refine sj_cI (rest := []) (fun _ _ _ e => sj_runU (n := 1) (owner := "java/lang/Object") (As := [.ref v17]) (rest := []) (sJ14_equals l G a1 v17 h _ _ _ e) he63 rfl rfl rfl q1238 q1240 q1296 q852 q141 q854 (Or.inr (Or.inl q1237)) (by decide +kernel) rfl rfl (fun _ z => by cases z) ⟨Nat.le_of_ble_eq_true rfl, Nat.le_of_ble_eq_true rfl⟩ rfl (Nat.le_of_ble_eq_true rfl) dJ22_getNode_63) hf (fun r18 h c hf => ?_)
            refine sj_ifeq 71 hf dJ22_getNode_66 (by decide) (fun g66 hf => ?_) (fun g66 hf => ?_)
            · exact sj_loc [6, 1, 2] rfl (sJ22_getNode_b71 l G a0 a1 ρ h2 cT a1 p6 r4 _ _ hf)
            · refine sj_aload_n 1 dJ22_getNode_69 rfl ?_
              exact sj_aretQ (o := sd_oQ) (x := (some p6)) hf rfl rfl rfl (Or.inl ⟨_, rfl⟩) dJ22_getNode_70
/-! java/util/HashMap.containsKey(Ljava/lang/Object;)Z -/
abbrev cJ22_containsKey : ByteArray := prog_84_method_14_code
def yJ22_containsKey : MethodName := ⟨RJ22, "containsKey", "(Ljava/lang/Object;)Z"⟩
def dkwJ22_containsKey_0 : List UInt8 := [42, 43, 182, 0, 158, 198, 0, 7, 4, 167, 0, 4, 3, 172]
abbrev dktJ22_containsKey_0 : List UInt8 := dkwJ22_containsKey_0 ++ []
theorem dksJ22_containsKey_0 : cJ22_containsKey.data.toList.drop 0 = dktJ22_containsKey_0 := by decide +kernel
theorem dJ22_containsKey_0 : decode cJ22_containsKey 0 = .ok (.aload_n 0, 1) := dk_42 (dk_at dksJ22_containsKey_0 0 rfl rfl)
theorem dJ22_containsKey_1 : decode cJ22_containsKey 1 = .ok (.aload_n 1, 1) := dk_43 (dk_at dksJ22_containsKey_0 1 rfl rfl)
theorem dJ22_containsKey_2 : decode cJ22_containsKey 2 = .ok (.invokevirtual 158, 3) := dk_182 0 158 (dk_at dksJ22_containsKey_0 2 rfl rfl)
theorem dJ22_containsKey_5 : decode cJ22_containsKey 5 = .ok (.ifnull 7, 3) := dk_198 0 7 (dk_at dksJ22_containsKey_0 5 rfl rfl)
theorem dJ22_containsKey_8 : decode cJ22_containsKey 8 = .ok (.iconst 1, 1) := dk_4 (dk_at dksJ22_containsKey_0 8 rfl rfl)
theorem dJ22_containsKey_9 : decode cJ22_containsKey 9 = .ok (.goto 4, 3) := dk_167 0 4 (dk_at dksJ22_containsKey_0 9 rfl rfl)
theorem dJ22_containsKey_12 : decode cJ22_containsKey 12 = .ok (.iconst 0, 1) := dk_3 (dk_at dksJ22_containsKey_0 12 rfl rfl)
theorem dJ22_containsKey_13 : decode cJ22_containsKey 13 = .ok (.ireturn, 1) := dk_172 (dk_at dksJ22_containsKey_0 13 rfl rfl)
abbrev mJ22_containsKey : sd_Y := (yJ22_containsKey, cJ22_containsKey, 2, some (.boolean), none)
def fJ22_containsKey (G : sd_G) (a0 : Nat) (a1 : Nat) : sd_M Int32 :=
  sd_bnd (sd_isC G 43 a0) fun _ =>
  sd_bnd (fJ22_getNode G a0 a1) fun r1 =>
  match r1 with
  | none =>
    sd_ret 0
  | some p2 =>
    sd_ret 1
set_option maxHeartbeats 4000000 in
theorem sJ22_containsKey (l : Launch) (G : sd_G) (a0 : Nat) (a1 : Nat) (h : sd_H) (ρ : Int32) (cT : Nat × Nat) (h2 : sd_H) (hf : fJ22_containsKey G a0 a1 h = some (ρ, cT, h2)) : sd_Met mJ22_containsKey ((l, G), (6, 138), [.ref a0, .ref a1], (sd_oI ρ, h2), cT) h := by
  refine sd_entry (plainFor_of_name rfl) rfl (Nat.le_of_ble_eq_true rfl) ?_
  show sd_J mJ22_containsKey ((l, G), (6, 138), [.ref a0, .ref a1], (sd_oI ρ, h2), cT) 0 [(0, .ref a0), (1, .ref a1)] [] h cT
  unfold fJ22_containsKey at hf
  refine sj_aload_n 0 dJ22_containsKey_0 rfl ?_
  refine sj_aload_n 1 dJ22_containsKey_1 rfl ?_
  obtain ⟨fs2, he2, hf⟩ := sd_isC_some hf
  refine sj_cQ (rest := []) (fun _ _ _ e => sj_runV (n := 1) (As := [.ref a1]) (rest := []) (sJ22_getNode l G a0 a1 h _ _ _ e) he2 rfl rfl rfl rfl q1110 q1111 q1112 q149 q1113 (by decide +kernel) rfl rfl ⟨Nat.le_of_ble_eq_true rfl, Nat.le_of_ble_eq_true rfl⟩ rfl (Nat.le_of_ble_eq_true rfl) dJ22_containsKey_2) hf (fun r1 h c hf => ?_)
  refine sj_ifnull 12 hf dJ22_containsKey_5 (by decide) (fun g5 hf => ?_) (fun p2 g5 hf => ?_)
  · refine sj_iconst (v := 0) dJ22_containsKey_12 (by decide) ?_
    exact sj_zretC (o := sd_oI) (ty := .boolean) rfl hf rfl rfl rfl dJ22_containsKey_13
  · subst g5
    refine sj_iconst (v := 1) dJ22_containsKey_8 (by decide) ?_
    refine sj_goto 13 dJ22_containsKey_9 (by decide) ?_
    exact sj_zretC (o := sd_oI) (ty := .boolean) rfl hf rfl rfl rfl dJ22_containsKey_13
/-! java/util/HashMap.get(Ljava/lang/Object;)Ljava/lang/Object; -/
abbrev cJ22_get : ByteArray := prog_84_method_12_code
def yJ22_get : MethodName := ⟨RJ22, "get", "(Ljava/lang/Object;)Ljava/lang/Object;"⟩
def dkwJ22_get_0 : List UInt8 := [42, 43, 182, 0, 158, 89, 77, 199, 0, 7, 1, 167, 0, 7, 44, 180, 0, 162, 176]
abbrev dktJ22_get_0 : List UInt8 := dkwJ22_get_0 ++ []
theorem dksJ22_get_0 : cJ22_get.data.toList.drop 0 = dktJ22_get_0 := by decide +kernel
theorem dJ22_get_0 : decode cJ22_get 0 = .ok (.aload_n 0, 1) := dk_42 (dk_at dksJ22_get_0 0 rfl rfl)
theorem dJ22_get_1 : decode cJ22_get 1 = .ok (.aload_n 1, 1) := dk_43 (dk_at dksJ22_get_0 1 rfl rfl)
theorem dJ22_get_2 : decode cJ22_get 2 = .ok (.invokevirtual 158, 3) := dk_182 0 158 (dk_at dksJ22_get_0 2 rfl rfl)
theorem dJ22_get_5 : decode cJ22_get 5 = .ok (.dup, 1) := dk_89 (dk_at dksJ22_get_0 5 rfl rfl)
theorem dJ22_get_6 : decode cJ22_get 6 = .ok (.astore_n 2, 1) := dk_77 (dk_at dksJ22_get_0 6 rfl rfl)
theorem dJ22_get_7 : decode cJ22_get 7 = .ok (.ifnonnull 7, 3) := dk_199 0 7 (dk_at dksJ22_get_0 7 rfl rfl)
theorem dJ22_get_10 : decode cJ22_get 10 = .ok (.aconst_null, 1) := dk_1 (dk_at dksJ22_get_0 10 rfl rfl)
theorem dJ22_get_11 : decode cJ22_get 11 = .ok (.goto 7, 3) := dk_167 0 7 (dk_at dksJ22_get_0 11 rfl rfl)
theorem dJ22_get_14 : decode cJ22_get 14 = .ok (.aload_n 2, 1) := dk_44 (dk_at dksJ22_get_0 14 rfl rfl)
theorem dJ22_get_15 : decode cJ22_get 15 = .ok (.getfield 162, 3) := dk_180 0 162 (dk_at dksJ22_get_0 15 rfl rfl)
theorem dJ22_get_18 : decode cJ22_get 18 = .ok (.areturn, 1) := dk_176 (dk_at dksJ22_get_0 18 rfl rfl)
theorem fdJ22_162_44 : sd_Fd "java/util/HashMap" 162 44 2 := ⟨(RJ26, TJ26, 4), "java/util/HashMap$Node", rfl, by decide, rfl, in_J26, Or.inl rfl, Or.inl q1706⟩
abbrev mJ22_get : sd_Y := (yJ22_get, cJ22_get, 3, some (.object "java/lang/Object"), none)
def fJ22_get (G : sd_G) (a0 : Nat) (a1 : Nat) : sd_M (Option Nat) :=
  sd_bnd (sd_isC G 43 a0) fun _ =>
  sd_bnd (fJ22_getNode G a0 a1) fun r1 =>
  match r1 with
  | none =>
    sd_ret none
  | some p2 =>
    sd_bnd (sd_getR G 44 2 p2) fun v3 =>
    sd_ret (some v3)
set_option maxHeartbeats 4000000 in
theorem sJ22_get (l : Launch) (G : sd_G) (a0 : Nat) (a1 : Nat) (h : sd_H) (ρ : Option Nat) (cT : Nat × Nat) (h2 : sd_H) (hf : fJ22_get G a0 a1 h = some (ρ, cT, h2)) : sd_Met mJ22_get ((l, G), (6, 138), [.ref a0, .ref a1], (sd_oQ ρ, h2), cT) h := by
  refine sd_entry (plainFor_of_name rfl) rfl (Nat.le_of_ble_eq_true rfl) ?_
  show sd_J mJ22_get ((l, G), (6, 138), [.ref a0, .ref a1], (sd_oQ ρ, h2), cT) 0 [(0, .ref a0), (1, .ref a1)] [] h cT
  unfold fJ22_get at hf
  refine sj_aload_n 0 dJ22_get_0 rfl ?_
  refine sj_aload_n 1 dJ22_get_1 rfl ?_
  obtain ⟨fs2, he2, hf⟩ := sd_isC_some hf
  refine sj_cQ (rest := []) (fun _ _ _ e => sj_runV (n := 1) (As := [.ref a1]) (rest := []) (sJ22_getNode l G a0 a1 h _ _ _ e) he2 rfl rfl rfl rfl q1110 q1111 q1112 q149 q1113 (by decide +kernel) rfl rfl ⟨Nat.le_of_ble_eq_true rfl, Nat.le_of_ble_eq_true rfl⟩ rfl (Nat.le_of_ble_eq_true rfl) dJ22_get_2) hf (fun r1 h c hf => ?_)
  refine sj_dup dJ22_get_5 (sd_cat1 _) ?_
  refine sj_astore_nQ [(2, va_rf r1), (0, .ref a0), (1, .ref a1)] dJ22_get_6 (by decide) rfl ?_
  refine sj_ifnonnull 14 hf dJ22_get_7 (by decide) (fun g7 hf => ?_) (fun p2 g7 hf => ?_)
  · refine sj_null dJ22_get_10 ?_
    refine sj_goto 18 dJ22_get_11 (by decide) ?_
    exact sj_aretQ (o := sd_oQ) (x := none) hf rfl rfl rfl (Or.inl ⟨_, rfl⟩) dJ22_get_18
  · subst g7
    refine sj_aload_n 0 dJ22_get_14 rfl ?_
    refine sj_getR fdJ22_162_44 hf dJ22_get_15 (fun v3 hf => ?_)
    exact sj_aretQ (o := sd_oQ) (x := (some v3)) hf rfl rfl rfl (Or.inl ⟨_, rfl⟩) dJ22_get_18
/-! java/util/HashMap$Node.<init>(ILjava/lang/Object;Ljava/lang/Object;Ljava/util/HashMap$Node;)V -/
abbrev cJ26_init : ByteArray := prog_85_method_1_code
def yJ26_init : MethodName := ⟨RJ26, "<init>", "(ILjava/lang/Object;Ljava/lang/Object;Ljava/util/HashMap$Node;)V"⟩
def dkwJ26_init_1 : List UInt8 := [181, 0, 20, 177]
abbrev dktJ26_init_1 : List UInt8 := dkwJ26_init_1 ++ []
def dkwJ26_init_0 : List UInt8 := [42, 183, 0, 1, 42, 27, 181, 0, 7, 42, 44, 181, 0, 13, 42, 45, 181, 0, 17, 42, 25, 4]
abbrev dktJ26_init_0 : List UInt8 := dkwJ26_init_0 ++ dktJ26_init_1
theorem dksJ26_init_0 : cJ26_init.data.toList.drop 0 = dktJ26_init_0 := by decide +kernel
theorem dksJ26_init_1 : cJ26_init.data.toList.drop 22 = dktJ26_init_1 := dk_seg dksJ26_init_0 22 rfl rfl
theorem dJ26_init_0 : decode cJ26_init 0 = .ok (.aload_n 0, 1) := dk_42 (dk_at dksJ26_init_0 0 rfl rfl)
theorem dJ26_init_1 : decode cJ26_init 1 = .ok (.invokespecial 1, 3) := dk_183 0 1 (dk_at dksJ26_init_0 1 rfl rfl)
theorem dJ26_init_4 : decode cJ26_init 4 = .ok (.aload_n 0, 1) := dk_42 (dk_at dksJ26_init_0 4 rfl rfl)
theorem dJ26_init_5 : decode cJ26_init 5 = .ok (.iload_n 1, 1) := dk_27 (dk_at dksJ26_init_0 5 rfl rfl)
theorem dJ26_init_6 : decode cJ26_init 6 = .ok (.putfield 7, 3) := dk_181 0 7 (dk_at dksJ26_init_0 6 rfl rfl)
theorem dJ26_init_9 : decode cJ26_init 9 = .ok (.aload_n 0, 1) := dk_42 (dk_at dksJ26_init_0 9 rfl rfl)
theorem dJ26_init_10 : decode cJ26_init 10 = .ok (.aload_n 2, 1) := dk_44 (dk_at dksJ26_init_0 10 rfl rfl)
theorem dJ26_init_11 : decode cJ26_init 11 = .ok (.putfield 13, 3) := dk_181 0 13 (dk_at dksJ26_init_0 11 rfl rfl)
theorem dJ26_init_14 : decode cJ26_init 14 = .ok (.aload_n 0, 1) := dk_42 (dk_at dksJ26_init_0 14 rfl rfl)
theorem dJ26_init_15 : decode cJ26_init 15 = .ok (.aload_n 3, 1) := dk_45 (dk_at dksJ26_init_0 15 rfl rfl)
theorem dJ26_init_16 : decode cJ26_init 16 = .ok (.putfield 17, 3) := dk_181 0 17 (dk_at dksJ26_init_0 16 rfl rfl)
theorem dJ26_init_19 : decode cJ26_init 19 = .ok (.aload_n 0, 1) := dk_42 (dk_at dksJ26_init_0 19 rfl rfl)
theorem dJ26_init_20 : decode cJ26_init 20 = .ok (.aload 4, 2) := dk_25 4 (dk_at dksJ26_init_0 20 rfl rfl)
theorem dJ26_init_22 : decode cJ26_init 22 = .ok (.putfield 20, 3) := dk_181 0 20 (dk_at dksJ26_init_1 0 rfl rfl)
theorem dJ26_init_25 : decode cJ26_init 25 = .ok (.return_, 1) := dk_177 (dk_at dksJ26_init_1 3 rfl rfl)
theorem fpJ26_init_7 : sd_Fp yJ26_init 7 44 0 .int := ⟨(RJ26, TJ26, 4), "java/util/HashMap$Node", tyJ26, rfl, by decide, rfl, in_J26, Or.inl rfl, tyJ26_ok, nmJ26, rfl, Or.inr ⟨rfl, rfl, rfl, q1697⟩⟩
theorem fpJ26_init_13 : sd_Fp yJ26_init 13 44 1 (.object "java/lang/Object") := ⟨(RJ26, TJ26, 4), "java/util/HashMap$Node", tyJ26, rfl, by decide, rfl, in_J26, Or.inl rfl, tyJ26_ok, nmJ26, rfl, Or.inr ⟨rfl, rfl, rfl, q1701⟩⟩
theorem fpJ26_17_44 (n d : String) : sd_Fp ⟨"java/util/HashMap$Node", n, d⟩ 17 44 2 (.object "java/lang/Object") := ⟨(RJ26, TJ26, 4), "java/util/HashMap$Node", tyJ26, rfl, by decide, rfl, in_J26, Or.inl rfl, tyJ26_ok, nmJ26, rfl, Or.inl ⟨rfl, Or.inl q1705⟩⟩
theorem fpJ26_20_44 (n d : String) : sd_Fp ⟨"java/util/HashMap$Node", n, d⟩ 20 44 3 (.object "java/util/HashMap$Node") := ⟨(RJ26, TJ26, 4), "java/util/HashMap$Node", tyJ26, rfl, by decide, rfl, in_J26, Or.inl rfl, tyJ26_ok, nmJ26, rfl, Or.inl ⟨rfl, Or.inl q1707⟩⟩
abbrev mJ26_init : sd_Y := (yJ26_init, cJ26_init, 5, none, none)
def fJ26_init (G : sd_G) (a0 : Nat) (a1 : Int32) (a2 : Nat) (a3 : Nat) (a4 : Option Nat) : sd_M Unit :=
  sd_bnd (sd_put 44 0 .int a0 (.int a1)) fun _ =>
  sd_bnd (sd_put 44 1 (.object "java/lang/Object") a0 (.ref a2)) fun _ =>
  sd_bnd (sd_put 44 2 (.object "java/lang/Object") a0 (.ref a3)) fun _ =>
  sd_bnd (sd_put 44 3 (.object "java/util/HashMap$Node") a0 (va_rf a4)) fun _ =>
  sd_ret ()
set_option maxHeartbeats 4000000 in
theorem sJ26_init (l : Launch) (G : sd_G) (a0 : Nat) (a1 : Int32) (a2 : Nat) (a3 : Nat) (a4 : Option Nat) (h : sd_H) (ρ : Unit) (cT : Nat × Nat) (h2 : sd_H) (hf : fJ26_init G a0 a1 a2 a3 a4 h = some (ρ, cT, h2)) : sd_Met mJ26_init ((l, G), (1, 12), [.ref a0, .int a1, .ref a2, .ref a3, va_rf a4], (sd_oV ρ, h2), cT) h := by
  refine sd_entry (plainFor_of_name rfl) rfl (by cases a4 <;> exact Nat.le_of_ble_eq_true rfl) ?_
  have e0 : lv_args 0 [.ref a0, .int a1, .ref a2, .ref a3, va_rf a4] = [(0, .ref a0), (1, .int a1), (2, .ref a2), (3, .ref a3), (4, va_rf a4)] := by simp [lv_args, sd_cat1, Value.category]
  show sd_J mJ26_init ((l, G), (1, 12), [.ref a0, .int a1, .ref a2, .ref a3, va_rf a4], (sd_oV ρ, h2), cT) 0 (lv_args 0 [.ref a0, .int a1, .ref a2, .ref a3, va_rf a4]) [] h cT
  rw [e0]
  unfold fJ26_init at hf
  refine sj_aload_n 0 dJ26_init_0 rfl ?_
  refine sj_objInit q1696 q188 q189 (Nat.le_of_ble_eq_true rfl) (Nat.le_of_ble_eq_true rfl) dJ26_init_1 ?_
  refine sj_aload_n 0 dJ26_init_4 rfl ?_
  refine sj_iload_n 1 dJ26_init_5 rfl ?_
  refine sj_put fpJ26_init_7 hf dJ26_init_6 (fun h hf => ?_)
  refine sj_aload_n 0 dJ26_init_9 rfl ?_
  refine sj_aload_n 2 dJ26_init_10 rfl ?_
  refine sj_put fpJ26_init_13 hf dJ26_init_11 (fun h hf => ?_)
  refine sj_aload_n 0 dJ26_init_14 rfl ?_
  refine sj_aload_n 3 dJ26_init_15 rfl ?_
  refine sj_put (fpJ26_17_44 _ _) hf dJ26_init_16 (fun h hf => ?_)
  refine sj_aload_n 0 dJ26_init_19 rfl ?_
  refine sj_aloadQ 4 dJ26_init_20 rfl ?_
  refine sj_put (fpJ26_20_44 _ _) hf dJ26_init_22 (fun h hf => ?_)
  exact sj_vret (o := sd_oV) hf rfl rfl rfl dJ26_init_25
/-! java/util/HashMap.newNode(ILjava/lang/Object;Ljava/lang/Object;Ljava/util/HashMap$Node;)Ljava/util/HashMap$Node; -/
abbrev cJ22_newNode : ByteArray := prog_84_method_46_code
def yJ22_newNode : MethodName := ⟨RJ22, "newNode", "(ILjava/lang/Object;Ljava/lang/Object;Ljava/util/HashMap$Node;)Ljava/util/HashMap$Node;"⟩
def dkwJ22_newNode_0 : List UInt8 := [187, 0, 163, 89, 27, 44, 45, 25, 4, 183, 1, 119, 176]
abbrev dktJ22_newNode_0 : List UInt8 := dkwJ22_newNode_0 ++ []
theorem dksJ22_newNode_0 : cJ22_newNode.data.toList.drop 0 = dktJ22_newNode_0 := by decide +kernel
theorem dJ22_newNode_0 : decode cJ22_newNode 0 = .ok (.new 163, 3) := dk_187 0 163 (dk_at dksJ22_newNode_0 0 rfl rfl)
theorem dJ22_newNode_3 : decode cJ22_newNode 3 = .ok (.dup, 1) := dk_89 (dk_at dksJ22_newNode_0 3 rfl rfl)
theorem dJ22_newNode_4 : decode cJ22_newNode 4 = .ok (.iload_n 1, 1) := dk_27 (dk_at dksJ22_newNode_0 4 rfl rfl)
theorem dJ22_newNode_5 : decode cJ22_newNode 5 = .ok (.aload_n 2, 1) := dk_44 (dk_at dksJ22_newNode_0 5 rfl rfl)
theorem dJ22_newNode_6 : decode cJ22_newNode 6 = .ok (.aload_n 3, 1) := dk_45 (dk_at dksJ22_newNode_0 6 rfl rfl)
theorem dJ22_newNode_7 : decode cJ22_newNode 7 = .ok (.aload 4, 2) := dk_25 4 (dk_at dksJ22_newNode_0 7 rfl rfl)
theorem dJ22_newNode_9 : decode cJ22_newNode 9 = .ok (.invokespecial 375, 3) := dk_183 1 119 (dk_at dksJ22_newNode_0 9 rfl rfl)
theorem dJ22_newNode_12 : decode cJ22_newNode 12 = .ok (.areturn, 1) := dk_176 (dk_at dksJ22_newNode_0 12 rfl rfl)
theorem fnJ22_163 : sd_Fn "java/util/HashMap" 163 44 4 [.int 0, .null, .null, .null] := ⟨(RJ26, TJ26, 4), tyJ26, rfl, rfl, in_J26, q1677, q1692, q157, tyJ26_ok, fun j hj => by revert j; decide⟩
abbrev mJ22_newNode : sd_Y := (yJ22_newNode, cJ22_newNode, 5, some (.object "java/util/HashMap$Node"), none)
def fJ22_newNode (G : sd_G) (a0 : Nat) (a1 : Int32) (a2 : Nat) (a3 : Nat) (a4 : Option Nat) : sd_M Nat :=
  sd_bnd (sd_new 44 4 [.int 0, .null, .null, .null]) fun o1 =>
  sd_bnd (fJ26_init G o1 a1 a2 a3 a4) fun _ =>
  sd_ret o1
set_option maxHeartbeats 4000000 in
theorem sJ22_newNode (l : Launch) (G : sd_G) (a0 : Nat) (a1 : Int32) (a2 : Nat) (a3 : Nat) (a4 : Option Nat) (h : sd_H) (ρ : Nat) (cT : Nat × Nat) (h2 : sd_H) (hf : fJ22_newNode G a0 a1 a2 a3 a4 h = some (ρ, cT, h2)) : sd_Met mJ22_newNode ((l, G), (2, 36), [.ref a0, .int a1, .ref a2, .ref a3, va_rf a4], (sd_oR ρ, h2), cT) h := by
  refine sd_entry (plainFor_of_name rfl) rfl (by cases a4 <;> exact Nat.le_of_ble_eq_true rfl) ?_
  have e0 : lv_args 0 [.ref a0, .int a1, .ref a2, .ref a3, va_rf a4] = [(0, .ref a0), (1, .int a1), (2, .ref a2), (3, .ref a3), (4, va_rf a4)] := by simp [lv_args, sd_cat1, Value.category]
  show sd_J mJ22_newNode ((l, G), (2, 36), [.ref a0, .int a1, .ref a2, .ref a3, va_rf a4], (sd_oR ρ, h2), cT) 0 (lv_args 0 [.ref a0, .int a1, .ref a2, .ref a3, va_rf a4]) [] h cT
  rw [e0]
  unfold fJ22_newNode at hf
  refine sj_new fnJ22_163 hf dJ22_newNode_0 (fun o1 h c hf => ?_)
  refine sj_dup dJ22_newNode_3 rfl ?_
  refine sj_iload_n 1 dJ22_newNode_4 rfl ?_
  refine sj_aload_n 2 dJ22_newNode_5 rfl ?_
  refine sj_aload_n 3 dJ22_newNode_6 rfl ?_
  refine sj_aloadQ 4 dJ22_newNode_7 rfl ?_
  refine sj_cV (rest := [.ref o1]) (fun _ _ _ e => sj_runI (n := 4) (a := o1) (As := [.int a1, .ref a2, .ref a3, va_rf a4]) (rest := [.ref o1]) (sJ26_init l G o1 a1 a2 a3 a4 h _ _ _ e) rfl rfl q1693 q1694 q157 q1695 rfl (by decide +kernel) rfl rfl (fun _ z => by cases z) ⟨Nat.le_of_ble_eq_true rfl, Nat.le_of_ble_eq_true rfl⟩ rfl (Nat.le_of_ble_eq_true rfl) dJ22_newNode_9) hf (fun h c hf => ?_)
  exact sj_aret (o := sd_oR) hf rfl rfl rfl (Or.inl ⟨_, rfl⟩) dJ22_newNode_12
/-! java/util/HashMap.resize()[Ljava/util/HashMap$Node; -/
abbrev cJ22_resize : ByteArray := prog_84_method_17_code
def yJ22_resize : MethodName := ⟨RJ22, "resize", "()[Ljava/util/HashMap$Node;"⟩
def dkwJ22_resize_15 : List UInt8 := [25, 6, 176]
abbrev dktJ22_resize_15 : List UInt8 := dkwJ22_resize_15 ++ []
def dkwJ22_resize_14 : List UInt8 := [198, 0, 18, 25, 12, 1, 181, 0, 177, 25, 6, 21, 7, 28, 96, 25, 11, 83, 132, 7, 1, 167, 255, 57]
abbrev dktJ22_resize_14 : List UInt8 := dkwJ22_resize_14 ++ dktJ22_resize_15
def dkwJ22_resize_13 : List UInt8 := [199, 255, 185, 25, 10, 198, 0, 16, 25, 10, 1, 181, 0, 177, 25, 6, 21, 7, 25, 9, 83, 25, 12]
abbrev dktJ22_resize_13 : List UInt8 := dkwJ22_resize_13 ++ dktJ22_resize_14
def dkwJ22_resize_12 : List UInt8 := [25, 8, 58, 11, 167, 0, 10, 25, 12, 25, 8, 181, 0, 177, 25, 8, 58, 12, 25, 13, 89, 58, 8]
abbrev dktJ22_resize_12 : List UInt8 := dkwJ22_resize_12 ++ dktJ22_resize_13
def dkwJ22_resize_11 : List UInt8 := [58, 9, 167, 0, 10, 25, 10, 25, 8, 181, 0, 177, 25, 8, 58, 10, 167, 0, 26, 25, 12, 199, 0, 10]
abbrev dktJ22_resize_11 : List UInt8 := dkwJ22_resize_11 ++ dktJ22_resize_12
def dkwJ22_resize_10 : List UInt8 := [25, 8, 180, 0, 177, 58, 13, 25, 8, 180, 0, 168, 28, 126, 154, 0, 29, 25, 10, 199, 0, 10, 25, 8]
abbrev dktJ22_resize_10 : List UInt8 := dkwJ22_resize_10 ++ dktJ22_resize_11
def dkwJ22_resize_9 : List UInt8 := [42, 25, 6, 21, 7, 28, 182, 0, 211, 167, 0, 127, 1, 58, 9, 1, 58, 10, 1, 58, 11, 1, 58, 12]
abbrev dktJ22_resize_9 : List UInt8 := dkwJ22_resize_9 ++ dktJ22_resize_10
def dkwJ22_resize_8 : List UInt8 := [21, 4, 4, 100, 126, 25, 8, 83, 167, 0, 152, 25, 8, 193, 0, 180, 153, 0, 20, 25, 8, 192, 0, 180]
abbrev dktJ22_resize_8 : List UInt8 := dkwJ22_resize_8 ++ dktJ22_resize_9
def dkwJ22_resize_7 : List UInt8 := [198, 0, 183, 43, 21, 7, 1, 83, 25, 8, 180, 0, 177, 199, 0, 21, 25, 6, 25, 8, 180, 0, 168]
abbrev dktJ22_resize_7 : List UInt8 := dkwJ22_resize_7 ++ dktJ22_resize_8
def dkwJ22_resize_6 : List UInt8 := [181, 0, 105, 43, 198, 0, 208, 3, 54, 7, 21, 7, 28, 162, 0, 199, 43, 21, 7, 50, 89, 58, 8]
abbrev dktJ22_resize_6 : List UInt8 := dkwJ22_resize_6 ++ dktJ22_resize_7
def dkwJ22_resize_5 : List UInt8 := [167, 0, 5, 18, 209, 54, 5, 42, 21, 5, 181, 0, 88, 21, 4, 189, 0, 163, 58, 6, 42, 25, 6]
abbrev dktJ22_resize_5 : List UInt8 := dkwJ22_resize_5 ++ dktJ22_resize_6
def dkwJ22_resize_4 : List UInt8 := [180, 0, 81, 106, 56, 6, 21, 4, 18, 42, 162, 0, 17, 23, 6, 18, 210, 150, 156, 0, 9, 23, 6, 139]
abbrev dktJ22_resize_4 : List UInt8 := dkwJ22_resize_4 ++ dktJ22_resize_5
def dkwJ22_resize_3 : List UInt8 := [54, 4, 167, 0, 11, 16, 16, 54, 4, 16, 12, 54, 5, 21, 5, 154, 0, 38, 21, 4, 134, 42]
abbrev dktJ22_resize_3 : List UInt8 := dkwJ22_resize_3 ++ dktJ22_resize_4
def dkwJ22_resize_2 : List UInt8 := [18, 42, 162, 0, 35, 28, 16, 16, 161, 0, 29, 29, 4, 120, 54, 5, 167, 0, 21, 29, 158, 0, 9, 29]
abbrev dktJ22_resize_2 : List UInt8 := dkwJ22_resize_2 ++ dktJ22_resize_3
def dkwJ22_resize_1 : List UInt8 := [28, 158, 0, 42, 28, 18, 42, 161, 0, 11, 42, 18, 209, 181, 0, 88, 43, 176, 28, 4, 120, 89, 54, 4]
abbrev dktJ22_resize_1 : List UInt8 := dkwJ22_resize_1 ++ dktJ22_resize_2
def dkwJ22_resize_0 : List UInt8 := [42, 180, 0, 105, 76, 43, 199, 0, 7, 3, 167, 0, 5, 43, 190, 61, 42, 180, 0, 88, 62, 3, 54, 5]
abbrev dktJ22_resize_0 : List UInt8 := dkwJ22_resize_0 ++ dktJ22_resize_1
theorem dksJ22_resize_0 : cJ22_resize.data.toList.drop 0 = dktJ22_resize_0 := by decide +kernel
theorem dksJ22_resize_1 : cJ22_resize.data.toList.drop 24 = dktJ22_resize_1 := dk_seg dksJ22_resize_0 24 rfl rfl
theorem dksJ22_resize_2 : cJ22_resize.data.toList.drop 48 = dktJ22_resize_2 := dk_seg dksJ22_resize_1 24 rfl rfl
theorem dksJ22_resize_3 : cJ22_resize.data.toList.drop 72 = dktJ22_resize_3 := dk_seg dksJ22_resize_2 24 rfl rfl
theorem dksJ22_resize_4 : cJ22_resize.data.toList.drop 94 = dktJ22_resize_4 := dk_seg dksJ22_resize_3 22 rfl rfl
theorem dksJ22_resize_5 : cJ22_resize.data.toList.drop 118 = dktJ22_resize_5 := dk_seg dksJ22_resize_4 24 rfl rfl
theorem dksJ22_resize_6 : cJ22_resize.data.toList.drop 141 = dktJ22_resize_6 := dk_seg dksJ22_resize_5 23 rfl rfl
theorem dksJ22_resize_7 : cJ22_resize.data.toList.drop 164 = dktJ22_resize_7 := dk_seg dksJ22_resize_6 23 rfl rfl
theorem dksJ22_resize_8 : cJ22_resize.data.toList.drop 187 = dktJ22_resize_8 := dk_seg dksJ22_resize_7 23 rfl rfl
theorem dksJ22_resize_9 : cJ22_resize.data.toList.drop 211 = dktJ22_resize_9 := dk_seg dksJ22_resize_8 24 rfl rfl
theorem dksJ22_resize_10 : cJ22_resize.data.toList.drop 235 = dktJ22_resize_10 := dk_seg dksJ22_resize_9 24 rfl rfl
theorem dksJ22_resize_11 : cJ22_resize.data.toList.drop 259 = dktJ22_resize_11 := dk_seg dksJ22_resize_10 24 rfl rfl
theorem dksJ22_resize_12 : cJ22_resize.data.toList.drop 283 = dktJ22_resize_12 := dk_seg dksJ22_resize_11 24 rfl rfl
theorem dksJ22_resize_13 : cJ22_resize.data.toList.drop 306 = dktJ22_resize_13 := dk_seg dksJ22_resize_12 23 rfl rfl
theorem dksJ22_resize_14 : cJ22_resize.data.toList.drop 329 = dktJ22_resize_14 := dk_seg dksJ22_resize_13 23 rfl rfl
theorem dksJ22_resize_15 : cJ22_resize.data.toList.drop 353 = dktJ22_resize_15 := dk_seg dksJ22_resize_14 24 rfl rfl
theorem dJ22_resize_0 : decode cJ22_resize 0 = .ok (.aload_n 0, 1) := dk_42 (dk_at dksJ22_resize_0 0 rfl rfl)
theorem dJ22_resize_1 : decode cJ22_resize 1 = .ok (.getfield 105, 3) := dk_180 0 105 (dk_at dksJ22_resize_0 1 rfl rfl)
theorem dJ22_resize_4 : decode cJ22_resize 4 = .ok (.astore_n 1, 1) := dk_76 (dk_at dksJ22_resize_0 4 rfl rfl)
theorem dJ22_resize_5 : decode cJ22_resize 5 = .ok (.aload_n 1, 1) := dk_43 (dk_at dksJ22_resize_0 5 rfl rfl)
theorem dJ22_resize_6 : decode cJ22_resize 6 = .ok (.ifnonnull 7, 3) := dk_199 0 7 (dk_at dksJ22_resize_0 6 rfl rfl)
theorem dJ22_resize_9 : decode cJ22_resize 9 = .ok (.iconst 0, 1) := dk_3 (dk_at dksJ22_resize_0 9 rfl rfl)
theorem dJ22_resize_10 : decode cJ22_resize 10 = .ok (.goto 5, 3) := dk_167 0 5 (dk_at dksJ22_resize_0 10 rfl rfl)
theorem dJ22_resize_13 : decode cJ22_resize 13 = .ok (.aload_n 1, 1) := dk_43 (dk_at dksJ22_resize_0 13 rfl rfl)
theorem dJ22_resize_14 : decode cJ22_resize 14 = .ok (.arraylength, 1) := dk_190 (dk_at dksJ22_resize_0 14 rfl rfl)
theorem dJ22_resize_15 : decode cJ22_resize 15 = .ok (.istore_n 2, 1) := dk_61 (dk_at dksJ22_resize_0 15 rfl rfl)
theorem dJ22_resize_16 : decode cJ22_resize 16 = .ok (.aload_n 0, 1) := dk_42 (dk_at dksJ22_resize_0 16 rfl rfl)
theorem dJ22_resize_17 : decode cJ22_resize 17 = .ok (.getfield 88, 3) := dk_180 0 88 (dk_at dksJ22_resize_0 17 rfl rfl)
theorem dJ22_resize_20 : decode cJ22_resize 20 = .ok (.istore_n 3, 1) := dk_62 (dk_at dksJ22_resize_0 20 rfl rfl)
theorem dJ22_resize_21 : decode cJ22_resize 21 = .ok (.iconst 0, 1) := dk_3 (dk_at dksJ22_resize_0 21 rfl rfl)
theorem dJ22_resize_22 : decode cJ22_resize 22 = .ok (.istore 5, 2) := dk_54 5 (dk_at dksJ22_resize_0 22 rfl rfl)
theorem dJ22_resize_24 : decode cJ22_resize 24 = .ok (.iload_n 2, 1) := dk_28 (dk_at dksJ22_resize_1 0 rfl rfl)
theorem dJ22_resize_25 : decode cJ22_resize 25 = .ok (.ifCond .le 42, 3) := dk_158 0 42 (dk_at dksJ22_resize_1 1 rfl rfl)
theorem dJ22_resize_28 : decode cJ22_resize 28 = .ok (.iload_n 2, 1) := dk_28 (dk_at dksJ22_resize_1 4 rfl rfl)
theorem dJ22_resize_29 : decode cJ22_resize 29 = .ok (.ldc 42, 2) := dk_18 42 (dk_at dksJ22_resize_1 5 rfl rfl)
theorem dJ22_resize_31 : decode cJ22_resize 31 = .ok (.if_icmp .lt 11, 3) := dk_161 0 11 (dk_at dksJ22_resize_1 7 rfl rfl)
theorem dJ22_resize_34 : decode cJ22_resize 34 = .ok (.aload_n 0, 1) := dk_42 (dk_at dksJ22_resize_1 10 rfl rfl)
theorem dJ22_resize_35 : decode cJ22_resize 35 = .ok (.ldc 209, 2) := dk_18 209 (dk_at dksJ22_resize_1 11 rfl rfl)
theorem dJ22_resize_37 : decode cJ22_resize 37 = .ok (.putfield 88, 3) := dk_181 0 88 (dk_at dksJ22_resize_1 13 rfl rfl)
theorem dJ22_resize_40 : decode cJ22_resize 40 = .ok (.aload_n 1, 1) := dk_43 (dk_at dksJ22_resize_1 16 rfl rfl)
theorem dJ22_resize_41 : decode cJ22_resize 41 = .ok (.areturn, 1) := dk_176 (dk_at dksJ22_resize_1 17 rfl rfl)
theorem dJ22_resize_42 : decode cJ22_resize 42 = .ok (.iload_n 2, 1) := dk_28 (dk_at dksJ22_resize_1 18 rfl rfl)
theorem dJ22_resize_43 : decode cJ22_resize 43 = .ok (.iconst 1, 1) := dk_4 (dk_at dksJ22_resize_1 19 rfl rfl)
theorem dJ22_resize_44 : decode cJ22_resize 44 = .ok (.ishl, 1) := dk_120 (dk_at dksJ22_resize_1 20 rfl rfl)
theorem dJ22_resize_45 : decode cJ22_resize 45 = .ok (.dup, 1) := dk_89 (dk_at dksJ22_resize_1 21 rfl rfl)
theorem dJ22_resize_46 : decode cJ22_resize 46 = .ok (.istore 4, 2) := dk_54 4 (dk_at dksJ22_resize_1 22 rfl rfl)
theorem dJ22_resize_48 : decode cJ22_resize 48 = .ok (.ldc 42, 2) := dk_18 42 (dk_at dksJ22_resize_2 0 rfl rfl)
theorem dJ22_resize_50 : decode cJ22_resize 50 = .ok (.if_icmp .ge 35, 3) := dk_162 0 35 (dk_at dksJ22_resize_2 2 rfl rfl)
theorem dJ22_resize_53 : decode cJ22_resize 53 = .ok (.iload_n 2, 1) := dk_28 (dk_at dksJ22_resize_2 5 rfl rfl)
theorem dJ22_resize_54 : decode cJ22_resize 54 = .ok (.bipush 16, 2) := dk_16 16 (dk_at dksJ22_resize_2 6 rfl rfl)
theorem dJ22_resize_56 : decode cJ22_resize 56 = .ok (.if_icmp .lt 29, 3) := dk_161 0 29 (dk_at dksJ22_resize_2 8 rfl rfl)
theorem dJ22_resize_59 : decode cJ22_resize 59 = .ok (.iload_n 3, 1) := dk_29 (dk_at dksJ22_resize_2 11 rfl rfl)
theorem dJ22_resize_60 : decode cJ22_resize 60 = .ok (.iconst 1, 1) := dk_4 (dk_at dksJ22_resize_2 12 rfl rfl)
theorem dJ22_resize_61 : decode cJ22_resize 61 = .ok (.ishl, 1) := dk_120 (dk_at dksJ22_resize_2 13 rfl rfl)
theorem dJ22_resize_62 : decode cJ22_resize 62 = .ok (.istore 5, 2) := dk_54 5 (dk_at dksJ22_resize_2 14 rfl rfl)
theorem dJ22_resize_64 : decode cJ22_resize 64 = .ok (.goto 21, 3) := dk_167 0 21 (dk_at dksJ22_resize_2 16 rfl rfl)
theorem dJ22_resize_67 : decode cJ22_resize 67 = .ok (.iload_n 3, 1) := dk_29 (dk_at dksJ22_resize_2 19 rfl rfl)
theorem dJ22_resize_68 : decode cJ22_resize 68 = .ok (.ifCond .le 9, 3) := dk_158 0 9 (dk_at dksJ22_resize_2 20 rfl rfl)
theorem dJ22_resize_71 : decode cJ22_resize 71 = .ok (.iload_n 3, 1) := dk_29 (dk_at dksJ22_resize_2 23 rfl rfl)
theorem dJ22_resize_72 : decode cJ22_resize 72 = .ok (.istore 4, 2) := dk_54 4 (dk_at dksJ22_resize_3 0 rfl rfl)
theorem dJ22_resize_74 : decode cJ22_resize 74 = .ok (.goto 11, 3) := dk_167 0 11 (dk_at dksJ22_resize_3 2 rfl rfl)
theorem dJ22_resize_77 : decode cJ22_resize 77 = .ok (.bipush 16, 2) := dk_16 16 (dk_at dksJ22_resize_3 5 rfl rfl)
theorem dJ22_resize_79 : decode cJ22_resize 79 = .ok (.istore 4, 2) := dk_54 4 (dk_at dksJ22_resize_3 7 rfl rfl)
theorem dJ22_resize_81 : decode cJ22_resize 81 = .ok (.bipush 12, 2) := dk_16 12 (dk_at dksJ22_resize_3 9 rfl rfl)
theorem dJ22_resize_83 : decode cJ22_resize 83 = .ok (.istore 5, 2) := dk_54 5 (dk_at dksJ22_resize_3 11 rfl rfl)
theorem dJ22_resize_85 : decode cJ22_resize 85 = .ok (.iload 5, 2) := dk_21 5 (dk_at dksJ22_resize_3 13 rfl rfl)
theorem dJ22_resize_87 : decode cJ22_resize 87 = .ok (.ifCond .ne 38, 3) := dk_154 0 38 (dk_at dksJ22_resize_3 15 rfl rfl)
theorem dJ22_resize_90 : decode cJ22_resize 90 = .ok (.iload 4, 2) := dk_21 4 (dk_at dksJ22_resize_3 18 rfl rfl)
theorem dJ22_resize_92 : decode cJ22_resize 92 = .ok (.i2f, 1) := dk_134 (dk_at dksJ22_resize_3 20 rfl rfl)
theorem dJ22_resize_93 : decode cJ22_resize 93 = .ok (.aload_n 0, 1) := dk_42 (dk_at dksJ22_resize_3 21 rfl rfl)
theorem dJ22_resize_94 : decode cJ22_resize 94 = .ok (.getfield 81, 3) := dk_180 0 81 (dk_at dksJ22_resize_4 0 rfl rfl)
theorem dJ22_resize_97 : decode cJ22_resize 97 = .ok (.fmul, 1) := dk_106 (dk_at dksJ22_resize_4 3 rfl rfl)
theorem dJ22_resize_98 : decode cJ22_resize 98 = .ok (.fstore 6, 2) := dk_56 6 (dk_at dksJ22_resize_4 4 rfl rfl)
theorem dJ22_resize_100 : decode cJ22_resize 100 = .ok (.iload 4, 2) := dk_21 4 (dk_at dksJ22_resize_4 6 rfl rfl)
theorem dJ22_resize_102 : decode cJ22_resize 102 = .ok (.ldc 42, 2) := dk_18 42 (dk_at dksJ22_resize_4 8 rfl rfl)
theorem dJ22_resize_104 : decode cJ22_resize 104 = .ok (.if_icmp .ge 17, 3) := dk_162 0 17 (dk_at dksJ22_resize_4 10 rfl rfl)
theorem dJ22_resize_107 : decode cJ22_resize 107 = .ok (.fload 6, 2) := dk_23 6 (dk_at dksJ22_resize_4 13 rfl rfl)
theorem dJ22_resize_109 : decode cJ22_resize 109 = .ok (.ldc 210, 2) := dk_18 210 (dk_at dksJ22_resize_4 15 rfl rfl)
theorem dJ22_resize_111 : decode cJ22_resize 111 = .ok (.fcmp .g, 1) := dk_150 (dk_at dksJ22_resize_4 17 rfl rfl)
theorem dJ22_resize_112 : decode cJ22_resize 112 = .ok (.ifCond .ge 9, 3) := dk_156 0 9 (dk_at dksJ22_resize_4 18 rfl rfl)
theorem dJ22_resize_115 : decode cJ22_resize 115 = .ok (.fload 6, 2) := dk_23 6 (dk_at dksJ22_resize_4 21 rfl rfl)
theorem dJ22_resize_117 : decode cJ22_resize 117 = .ok (.f2i, 1) := dk_139 (dk_at dksJ22_resize_4 23 rfl rfl)
theorem dJ22_resize_118 : decode cJ22_resize 118 = .ok (.goto 5, 3) := dk_167 0 5 (dk_at dksJ22_resize_5 0 rfl rfl)
theorem dJ22_resize_121 : decode cJ22_resize 121 = .ok (.ldc 209, 2) := dk_18 209 (dk_at dksJ22_resize_5 3 rfl rfl)
theorem dJ22_resize_123 : decode cJ22_resize 123 = .ok (.istore 5, 2) := dk_54 5 (dk_at dksJ22_resize_5 5 rfl rfl)
theorem dJ22_resize_125 : decode cJ22_resize 125 = .ok (.aload_n 0, 1) := dk_42 (dk_at dksJ22_resize_5 7 rfl rfl)
theorem dJ22_resize_126 : decode cJ22_resize 126 = .ok (.iload 5, 2) := dk_21 5 (dk_at dksJ22_resize_5 8 rfl rfl)
theorem dJ22_resize_128 : decode cJ22_resize 128 = .ok (.putfield 88, 3) := dk_181 0 88 (dk_at dksJ22_resize_5 10 rfl rfl)
theorem dJ22_resize_131 : decode cJ22_resize 131 = .ok (.iload 4, 2) := dk_21 4 (dk_at dksJ22_resize_5 13 rfl rfl)
theorem dJ22_resize_133 : decode cJ22_resize 133 = .ok (.anewarray 163, 3) := dk_189 0 163 (dk_at dksJ22_resize_5 15 rfl rfl)
theorem dJ22_resize_136 : decode cJ22_resize 136 = .ok (.astore 6, 2) := dk_58 6 (dk_at dksJ22_resize_5 18 rfl rfl)
theorem dJ22_resize_138 : decode cJ22_resize 138 = .ok (.aload_n 0, 1) := dk_42 (dk_at dksJ22_resize_5 20 rfl rfl)
theorem dJ22_resize_139 : decode cJ22_resize 139 = .ok (.aload 6, 2) := dk_25 6 (dk_at dksJ22_resize_5 21 rfl rfl)
theorem dJ22_resize_141 : decode cJ22_resize 141 = .ok (.putfield 105, 3) := dk_181 0 105 (dk_at dksJ22_resize_6 0 rfl rfl)
theorem dJ22_resize_144 : decode cJ22_resize 144 = .ok (.aload_n 1, 1) := dk_43 (dk_at dksJ22_resize_6 3 rfl rfl)
theorem dJ22_resize_145 : decode cJ22_resize 145 = .ok (.ifnull 208, 3) := dk_198 0 208 (dk_at dksJ22_resize_6 4 rfl rfl)
theorem dJ22_resize_148 : decode cJ22_resize 148 = .ok (.iconst 0, 1) := dk_3 (dk_at dksJ22_resize_6 7 rfl rfl)
theorem dJ22_resize_149 : decode cJ22_resize 149 = .ok (.istore 7, 2) := dk_54 7 (dk_at dksJ22_resize_6 8 rfl rfl)
theorem dJ22_resize_151 : decode cJ22_resize 151 = .ok (.iload 7, 2) := dk_21 7 (dk_at dksJ22_resize_6 10 rfl rfl)
theorem dJ22_resize_153 : decode cJ22_resize 153 = .ok (.iload_n 2, 1) := dk_28 (dk_at dksJ22_resize_6 12 rfl rfl)
theorem dJ22_resize_154 : decode cJ22_resize 154 = .ok (.if_icmp .ge 199, 3) := dk_162 0 199 (dk_at dksJ22_resize_6 13 rfl rfl)
theorem dJ22_resize_157 : decode cJ22_resize 157 = .ok (.aload_n 1, 1) := dk_43 (dk_at dksJ22_resize_6 16 rfl rfl)
theorem dJ22_resize_158 : decode cJ22_resize 158 = .ok (.iload 7, 2) := dk_21 7 (dk_at dksJ22_resize_6 17 rfl rfl)
theorem dJ22_resize_160 : decode cJ22_resize 160 = .ok (.aaload, 1) := dk_50 (dk_at dksJ22_resize_6 19 rfl rfl)
theorem dJ22_resize_161 : decode cJ22_resize 161 = .ok (.dup, 1) := dk_89 (dk_at dksJ22_resize_6 20 rfl rfl)
theorem dJ22_resize_162 : decode cJ22_resize 162 = .ok (.astore 8, 2) := dk_58 8 (dk_at dksJ22_resize_6 21 rfl rfl)
theorem dJ22_resize_164 : decode cJ22_resize 164 = .ok (.ifnull 183, 3) := dk_198 0 183 (dk_at dksJ22_resize_7 0 rfl rfl)
theorem dJ22_resize_167 : decode cJ22_resize 167 = .ok (.aload_n 1, 1) := dk_43 (dk_at dksJ22_resize_7 3 rfl rfl)
theorem dJ22_resize_168 : decode cJ22_resize 168 = .ok (.iload 7, 2) := dk_21 7 (dk_at dksJ22_resize_7 4 rfl rfl)
theorem dJ22_resize_170 : decode cJ22_resize 170 = .ok (.aconst_null, 1) := dk_1 (dk_at dksJ22_resize_7 6 rfl rfl)
theorem dJ22_resize_171 : decode cJ22_resize 171 = .ok (.aastore, 1) := dk_83 (dk_at dksJ22_resize_7 7 rfl rfl)
theorem dJ22_resize_172 : decode cJ22_resize 172 = .ok (.aload 8, 2) := dk_25 8 (dk_at dksJ22_resize_7 8 rfl rfl)
theorem dJ22_resize_174 : decode cJ22_resize 174 = .ok (.getfield 177, 3) := dk_180 0 177 (dk_at dksJ22_resize_7 10 rfl rfl)
theorem dJ22_resize_177 : decode cJ22_resize 177 = .ok (.ifnonnull 21, 3) := dk_199 0 21 (dk_at dksJ22_resize_7 13 rfl rfl)
theorem dJ22_resize_180 : decode cJ22_resize 180 = .ok (.aload 6, 2) := dk_25 6 (dk_at dksJ22_resize_7 16 rfl rfl)
theorem dJ22_resize_182 : decode cJ22_resize 182 = .ok (.aload 8, 2) := dk_25 8 (dk_at dksJ22_resize_7 18 rfl rfl)
theorem dJ22_resize_184 : decode cJ22_resize 184 = .ok (.getfield 168, 3) := dk_180 0 168 (dk_at dksJ22_resize_7 20 rfl rfl)
theorem dJ22_resize_187 : decode cJ22_resize 187 = .ok (.iload 4, 2) := dk_21 4 (dk_at dksJ22_resize_8 0 rfl rfl)
theorem dJ22_resize_189 : decode cJ22_resize 189 = .ok (.iconst 1, 1) := dk_4 (dk_at dksJ22_resize_8 2 rfl rfl)
theorem dJ22_resize_190 : decode cJ22_resize 190 = .ok (.isub, 1) := dk_100 (dk_at dksJ22_resize_8 3 rfl rfl)
theorem dJ22_resize_191 : decode cJ22_resize 191 = .ok (.iand, 1) := dk_126 (dk_at dksJ22_resize_8 4 rfl rfl)
theorem dJ22_resize_192 : decode cJ22_resize 192 = .ok (.aload 8, 2) := dk_25 8 (dk_at dksJ22_resize_8 5 rfl rfl)
theorem dJ22_resize_194 : decode cJ22_resize 194 = .ok (.aastore, 1) := dk_83 (dk_at dksJ22_resize_8 7 rfl rfl)
theorem dJ22_resize_195 : decode cJ22_resize 195 = .ok (.goto 152, 3) := dk_167 0 152 (dk_at dksJ22_resize_8 8 rfl rfl)
theorem dJ22_resize_198 : decode cJ22_resize 198 = .ok (.aload 8, 2) := dk_25 8 (dk_at dksJ22_resize_8 11 rfl rfl)
theorem dJ22_resize_200 : decode cJ22_resize 200 = .ok (.instanceof 180, 3) := dk_193 0 180 (dk_at dksJ22_resize_8 13 rfl rfl)
theorem dJ22_resize_203 : decode cJ22_resize 203 = .ok (.ifCond .eq 20, 3) := dk_153 0 20 (dk_at dksJ22_resize_8 16 rfl rfl)
theorem dJ22_resize_206 : decode cJ22_resize 206 = .ok (.aload 8, 2) := dk_25 8 (dk_at dksJ22_resize_8 19 rfl rfl)
theorem dJ22_resize_208 : decode cJ22_resize 208 = .ok (.checkcast 180, 3) := dk_192 0 180 (dk_at dksJ22_resize_8 21 rfl rfl)
theorem dJ22_resize_211 : decode cJ22_resize 211 = .ok (.aload_n 0, 1) := dk_42 (dk_at dksJ22_resize_9 0 rfl rfl)
theorem dJ22_resize_212 : decode cJ22_resize 212 = .ok (.aload 6, 2) := dk_25 6 (dk_at dksJ22_resize_9 1 rfl rfl)
theorem dJ22_resize_214 : decode cJ22_resize 214 = .ok (.iload 7, 2) := dk_21 7 (dk_at dksJ22_resize_9 3 rfl rfl)
theorem dJ22_resize_216 : decode cJ22_resize 216 = .ok (.iload_n 2, 1) := dk_28 (dk_at dksJ22_resize_9 5 rfl rfl)
theorem dJ22_resize_217 : decode cJ22_resize 217 = .ok (.invokevirtual 211, 3) := dk_182 0 211 (dk_at dksJ22_resize_9 6 rfl rfl)
theorem dJ22_resize_220 : decode cJ22_resize 220 = .ok (.goto 127, 3) := dk_167 0 127 (dk_at dksJ22_resize_9 9 rfl rfl)
theorem dJ22_resize_223 : decode cJ22_resize 223 = .ok (.aconst_null, 1) := dk_1 (dk_at dksJ22_resize_9 12 rfl rfl)
theorem dJ22_resize_224 : decode cJ22_resize 224 = .ok (.astore 9, 2) := dk_58 9 (dk_at dksJ22_resize_9 13 rfl rfl)
theorem dJ22_resize_226 : decode cJ22_resize 226 = .ok (.aconst_null, 1) := dk_1 (dk_at dksJ22_resize_9 15 rfl rfl)
theorem dJ22_resize_227 : decode cJ22_resize 227 = .ok (.astore 10, 2) := dk_58 10 (dk_at dksJ22_resize_9 16 rfl rfl)
theorem dJ22_resize_229 : decode cJ22_resize 229 = .ok (.aconst_null, 1) := dk_1 (dk_at dksJ22_resize_9 18 rfl rfl)
theorem dJ22_resize_230 : decode cJ22_resize 230 = .ok (.astore 11, 2) := dk_58 11 (dk_at dksJ22_resize_9 19 rfl rfl)
theorem dJ22_resize_232 : decode cJ22_resize 232 = .ok (.aconst_null, 1) := dk_1 (dk_at dksJ22_resize_9 21 rfl rfl)
theorem dJ22_resize_233 : decode cJ22_resize 233 = .ok (.astore 12, 2) := dk_58 12 (dk_at dksJ22_resize_9 22 rfl rfl)
theorem dJ22_resize_235 : decode cJ22_resize 235 = .ok (.aload 8, 2) := dk_25 8 (dk_at dksJ22_resize_10 0 rfl rfl)
theorem dJ22_resize_237 : decode cJ22_resize 237 = .ok (.getfield 177, 3) := dk_180 0 177 (dk_at dksJ22_resize_10 2 rfl rfl)
theorem dJ22_resize_240 : decode cJ22_resize 240 = .ok (.astore 13, 2) := dk_58 13 (dk_at dksJ22_resize_10 5 rfl rfl)
theorem dJ22_resize_242 : decode cJ22_resize 242 = .ok (.aload 8, 2) := dk_25 8 (dk_at dksJ22_resize_10 7 rfl rfl)
theorem dJ22_resize_244 : decode cJ22_resize 244 = .ok (.getfield 168, 3) := dk_180 0 168 (dk_at dksJ22_resize_10 9 rfl rfl)
theorem dJ22_resize_247 : decode cJ22_resize 247 = .ok (.iload_n 2, 1) := dk_28 (dk_at dksJ22_resize_10 12 rfl rfl)
theorem dJ22_resize_248 : decode cJ22_resize 248 = .ok (.iand, 1) := dk_126 (dk_at dksJ22_resize_10 13 rfl rfl)
theorem dJ22_resize_249 : decode cJ22_resize 249 = .ok (.ifCond .ne 29, 3) := dk_154 0 29 (dk_at dksJ22_resize_10 14 rfl rfl)
theorem dJ22_resize_252 : decode cJ22_resize 252 = .ok (.aload 10, 2) := dk_25 10 (dk_at dksJ22_resize_10 17 rfl rfl)
theorem dJ22_resize_254 : decode cJ22_resize 254 = .ok (.ifnonnull 10, 3) := dk_199 0 10 (dk_at dksJ22_resize_10 19 rfl rfl)
theorem dJ22_resize_257 : decode cJ22_resize 257 = .ok (.aload 8, 2) := dk_25 8 (dk_at dksJ22_resize_10 22 rfl rfl)
theorem dJ22_resize_259 : decode cJ22_resize 259 = .ok (.astore 9, 2) := dk_58 9 (dk_at dksJ22_resize_11 0 rfl rfl)
theorem dJ22_resize_261 : decode cJ22_resize 261 = .ok (.goto 10, 3) := dk_167 0 10 (dk_at dksJ22_resize_11 2 rfl rfl)
theorem dJ22_resize_264 : decode cJ22_resize 264 = .ok (.aload 10, 2) := dk_25 10 (dk_at dksJ22_resize_11 5 rfl rfl)
theorem dJ22_resize_266 : decode cJ22_resize 266 = .ok (.aload 8, 2) := dk_25 8 (dk_at dksJ22_resize_11 7 rfl rfl)
theorem dJ22_resize_268 : decode cJ22_resize 268 = .ok (.putfield 177, 3) := dk_181 0 177 (dk_at dksJ22_resize_11 9 rfl rfl)
theorem dJ22_resize_271 : decode cJ22_resize 271 = .ok (.aload 8, 2) := dk_25 8 (dk_at dksJ22_resize_11 12 rfl rfl)
theorem dJ22_resize_273 : decode cJ22_resize 273 = .ok (.astore 10, 2) := dk_58 10 (dk_at dksJ22_resize_11 14 rfl rfl)
theorem dJ22_resize_275 : decode cJ22_resize 275 = .ok (.goto 26, 3) := dk_167 0 26 (dk_at dksJ22_resize_11 16 rfl rfl)
theorem dJ22_resize_278 : decode cJ22_resize 278 = .ok (.aload 12, 2) := dk_25 12 (dk_at dksJ22_resize_11 19 rfl rfl)
theorem dJ22_resize_280 : decode cJ22_resize 280 = .ok (.ifnonnull 10, 3) := dk_199 0 10 (dk_at dksJ22_resize_11 21 rfl rfl)
theorem dJ22_resize_283 : decode cJ22_resize 283 = .ok (.aload 8, 2) := dk_25 8 (dk_at dksJ22_resize_12 0 rfl rfl)
theorem dJ22_resize_285 : decode cJ22_resize 285 = .ok (.astore 11, 2) := dk_58 11 (dk_at dksJ22_resize_12 2 rfl rfl)
theorem dJ22_resize_287 : decode cJ22_resize 287 = .ok (.goto 10, 3) := dk_167 0 10 (dk_at dksJ22_resize_12 4 rfl rfl)
theorem dJ22_resize_290 : decode cJ22_resize 290 = .ok (.aload 12, 2) := dk_25 12 (dk_at dksJ22_resize_12 7 rfl rfl)
theorem dJ22_resize_292 : decode cJ22_resize 292 = .ok (.aload 8, 2) := dk_25 8 (dk_at dksJ22_resize_12 9 rfl rfl)
theorem dJ22_resize_294 : decode cJ22_resize 294 = .ok (.putfield 177, 3) := dk_181 0 177 (dk_at dksJ22_resize_12 11 rfl rfl)
theorem dJ22_resize_297 : decode cJ22_resize 297 = .ok (.aload 8, 2) := dk_25 8 (dk_at dksJ22_resize_12 14 rfl rfl)
theorem dJ22_resize_299 : decode cJ22_resize 299 = .ok (.astore 12, 2) := dk_58 12 (dk_at dksJ22_resize_12 16 rfl rfl)
theorem dJ22_resize_301 : decode cJ22_resize 301 = .ok (.aload 13, 2) := dk_25 13 (dk_at dksJ22_resize_12 18 rfl rfl)
theorem dJ22_resize_303 : decode cJ22_resize 303 = .ok (.dup, 1) := dk_89 (dk_at dksJ22_resize_12 20 rfl rfl)
theorem dJ22_resize_304 : decode cJ22_resize 304 = .ok (.astore 8, 2) := dk_58 8 (dk_at dksJ22_resize_12 21 rfl rfl)
theorem dJ22_resize_306 : decode cJ22_resize 306 = .ok (.ifnonnull (-71), 3) := dk_199 255 185 (dk_at dksJ22_resize_13 0 rfl rfl)
theorem dJ22_resize_309 : decode cJ22_resize 309 = .ok (.aload 10, 2) := dk_25 10 (dk_at dksJ22_resize_13 3 rfl rfl)
theorem dJ22_resize_311 : decode cJ22_resize 311 = .ok (.ifnull 16, 3) := dk_198 0 16 (dk_at dksJ22_resize_13 5 rfl rfl)
theorem dJ22_resize_314 : decode cJ22_resize 314 = .ok (.aload 10, 2) := dk_25 10 (dk_at dksJ22_resize_13 8 rfl rfl)
theorem dJ22_resize_316 : decode cJ22_resize 316 = .ok (.aconst_null, 1) := dk_1 (dk_at dksJ22_resize_13 10 rfl rfl)
theorem dJ22_resize_317 : decode cJ22_resize 317 = .ok (.putfield 177, 3) := dk_181 0 177 (dk_at dksJ22_resize_13 11 rfl rfl)
theorem dJ22_resize_320 : decode cJ22_resize 320 = .ok (.aload 6, 2) := dk_25 6 (dk_at dksJ22_resize_13 14 rfl rfl)
theorem dJ22_resize_322 : decode cJ22_resize 322 = .ok (.iload 7, 2) := dk_21 7 (dk_at dksJ22_resize_13 16 rfl rfl)
theorem dJ22_resize_324 : decode cJ22_resize 324 = .ok (.aload 9, 2) := dk_25 9 (dk_at dksJ22_resize_13 18 rfl rfl)
theorem dJ22_resize_326 : decode cJ22_resize 326 = .ok (.aastore, 1) := dk_83 (dk_at dksJ22_resize_13 20 rfl rfl)
theorem dJ22_resize_327 : decode cJ22_resize 327 = .ok (.aload 12, 2) := dk_25 12 (dk_at dksJ22_resize_13 21 rfl rfl)
theorem dJ22_resize_329 : decode cJ22_resize 329 = .ok (.ifnull 18, 3) := dk_198 0 18 (dk_at dksJ22_resize_14 0 rfl rfl)
theorem dJ22_resize_332 : decode cJ22_resize 332 = .ok (.aload 12, 2) := dk_25 12 (dk_at dksJ22_resize_14 3 rfl rfl)
theorem dJ22_resize_334 : decode cJ22_resize 334 = .ok (.aconst_null, 1) := dk_1 (dk_at dksJ22_resize_14 5 rfl rfl)
theorem dJ22_resize_335 : decode cJ22_resize 335 = .ok (.putfield 177, 3) := dk_181 0 177 (dk_at dksJ22_resize_14 6 rfl rfl)
theorem dJ22_resize_338 : decode cJ22_resize 338 = .ok (.aload 6, 2) := dk_25 6 (dk_at dksJ22_resize_14 9 rfl rfl)
theorem dJ22_resize_340 : decode cJ22_resize 340 = .ok (.iload 7, 2) := dk_21 7 (dk_at dksJ22_resize_14 11 rfl rfl)
theorem dJ22_resize_342 : decode cJ22_resize 342 = .ok (.iload_n 2, 1) := dk_28 (dk_at dksJ22_resize_14 13 rfl rfl)
theorem dJ22_resize_343 : decode cJ22_resize 343 = .ok (.iadd, 1) := dk_96 (dk_at dksJ22_resize_14 14 rfl rfl)
theorem dJ22_resize_344 : decode cJ22_resize 344 = .ok (.aload 11, 2) := dk_25 11 (dk_at dksJ22_resize_14 15 rfl rfl)
theorem dJ22_resize_346 : decode cJ22_resize 346 = .ok (.aastore, 1) := dk_83 (dk_at dksJ22_resize_14 17 rfl rfl)
theorem dJ22_resize_347 : decode cJ22_resize 347 = .ok (.iinc 7 1, 3) := dk_132 7 1 (dk_at dksJ22_resize_14 18 rfl rfl)
theorem dJ22_resize_350 : decode cJ22_resize 350 = .ok (.goto (-199), 3) := dk_167 255 57 (dk_at dksJ22_resize_14 21 rfl rfl)
theorem dJ22_resize_353 : decode cJ22_resize 353 = .ok (.aload 6, 2) := dk_25 6 (dk_at dksJ22_resize_15 0 rfl rfl)
theorem dJ22_resize_355 : decode cJ22_resize 355 = .ok (.areturn, 1) := dk_176 (dk_at dksJ22_resize_15 2 rfl rfl)
theorem fdJ22_88_43 : sd_Fd "java/util/HashMap" 88 43 6 := ⟨(RJ22, TJ22, 8), "java/util/HashMap", rfl, by decide, rfl, in_J22, Or.inl rfl, Or.inl q940⟩
theorem fpJ22_88_43 (n d : String) : sd_Fp ⟨"java/util/HashMap", n, d⟩ 88 43 6 .int := ⟨(RJ22, TJ22, 8), "java/util/HashMap", tyJ22, rfl, by decide, rfl, in_J22, Or.inl rfl, tyJ22_ok, nmJ22, rfl, Or.inl ⟨rfl, Or.inl q940⟩⟩
theorem fpJ22_105_43 (n d : String) : sd_Fp ⟨"java/util/HashMap", n, d⟩ 105 43 2 (.array (.object "java/util/HashMap$Node")) := ⟨(RJ22, TJ22, 8), "java/util/HashMap", tyJ22, rfl, by decide, rfl, in_J22, Or.inl rfl, tyJ22_ok, nmJ22, rfl, Or.inl ⟨rfl, Or.inl q937⟩⟩
abbrev mJ22_resize : sd_Y := (yJ22_resize, cJ22_resize, 14, some ((.array (.object "java/util/HashMap$Node"))), none)
def fJ22_resize (G : sd_G) (a0 : Nat) : sd_M Nat :=
  sd_bnd (sd_getQ G 43 2 a0) fun v1 =>
  match v1 with
  | none =>
    sd_bnd (sd_getI G 43 6 a0) fun v3 =>
    if (0 : Int32) ≤ 0 then (
      if v3 ≤ 0 then (
        sd_bnd (sd_put 43 6 .int a0 (.int 12)) fun _ =>
        sd_bnd (sd_newQ 5 16) fun o4 =>
        sd_bnd (sd_put 43 2 (.array (.object "java/util/HashMap$Node")) a0 (.ref o4)) fun _ =>
        match v1 with
        | none =>
          sd_ret o4
        | some p5 =>
          sd_fail)
      else (
        sd_fail))
    else (
      sd_fail)
  | some p2 =>
    sd_fail
set_option maxHeartbeats 4000000 in
theorem sJ22_resize (l : Launch) (G : sd_G) (a0 : Nat) (h : sd_H) (ρ : Nat) (cT : Nat × Nat) (h2 : sd_H) (hf : fJ22_resize G a0 h = some (ρ, cT, h2)) : sd_Met mJ22_resize ((l, G), (0, 0), [.ref a0], (sd_oR ρ, h2), cT) h := by
  refine sd_entry (plainFor_of_name rfl) rfl (Nat.le_of_ble_eq_true rfl) ?_
  show sd_J mJ22_resize ((l, G), (0, 0), [.ref a0], (sd_oR ρ, h2), cT) 0 [(0, .ref a0)] [] h cT
  unfold fJ22_resize at hf
  refine sj_aload_n 0 dJ22_resize_0 rfl ?_
  refine sj_getQ fdJ22_105_43 hf dJ22_resize_1 (fun v1 hf => ?_)
  refine sj_astore_nQ [(1, va_rf v1), (0, .ref a0)] dJ22_resize_4 (by decide) rfl ?_
  refine sj_aload_nQ 0 dJ22_resize_5 rfl ?_
  refine sj_ifnonnull 13 hf dJ22_resize_6 (by decide) (fun g6 hf => ?_) (fun p2 g6 hf => ?_)
  · refine sj_iconst (v := 0) dJ22_resize_9 (by decide) ?_
    refine sj_goto 15 dJ22_resize_10 (by decide) ?_
    refine sj_istore_n [(2, .int 0), (1, va_rf v1), (0, .ref a0)] dJ22_resize_15 (by decide) (by cases v1 <;> rfl) ?_
    refine sj_aload_n 2 dJ22_resize_16 rfl ?_
    refine sj_getI fdJ22_88_43 hf dJ22_resize_17 (fun v3 hf => ?_)
    refine sj_istore_n [(3, .int v3), (2, .int 0), (1, va_rf v1), (0, .ref a0)] dJ22_resize_20 (by decide) rfl ?_
    refine sj_iconst (v := 0) dJ22_resize_21 (by decide) ?_
    refine sj_istore [(5, .int 0), (3, .int v3), (2, .int 0), (1, va_rf v1), (0, .ref a0)] dJ22_resize_22 (by decide) rfl ?_
    refine sj_iload_n 2 dJ22_resize_24 rfl ?_
    refine sj_ifle 67 hf dJ22_resize_25 (by decide) (fun g25 hf => ?_) (fun g25 hf => ?_)
    · refine sj_iload_n 1 dJ22_resize_67 rfl ?_
      refine sj_ifle 77 hf dJ22_resize_68 (by decide) (fun g68 hf => ?_) (fun g68 hf => ?_)
      · refine sj_bipush (v := 16) dJ22_resize_77 (by decide) ?_
        refine sj_istore [(4, .int 16), (5, .int 0), (3, .int v3), (2, .int 0), (1, va_rf v1), (0, .ref a0)] dJ22_resize_79 (by decide) rfl ?_
        refine sj_bipush (v := 12) dJ22_resize_81 (by decide) ?_
        refine sj_istore [(5, .int 12), (4, .int 16), (3, .int v3), (2, .int 0), (1, va_rf v1), (0, .ref a0)] dJ22_resize_83 (by decide) rfl ?_
        refine sj_iload 0 dJ22_resize_85 rfl ?_
        refine sj_ifneT 125 (by decide) dJ22_resize_87 (by decide) ?_
        refine sj_aload_n 5 dJ22_resize_125 rfl ?_
        refine sj_iload 0 dJ22_resize_126 rfl ?_
        refine sj_put (fpJ22_88_43 _ _) hf dJ22_resize_128 (fun h hf => ?_)
        refine sj_iload 1 dJ22_resize_131 rfl ?_
        refine sj_newQ (E := "java/util/HashMap$Node") rfl (by decide) q1677 hf dJ22_resize_133 (fun o4 h c hf => ?_)
        refine sj_astore [(6, .ref o4), (5, .int 12), (4, .int 16), (3, .int v3), (2, .int 0), (1, va_rf v1), (0, .ref a0)] dJ22_resize_136 (by decide) rfl ?_
        refine sj_aload_n 6 dJ22_resize_138 rfl ?_
        refine sj_aload 0 dJ22_resize_139 rfl ?_
        refine sj_put (fpJ22_105_43 _ _) hf dJ22_resize_141 (fun h hf => ?_)
        refine sj_aload_nQ 5 dJ22_resize_144 rfl ?_
        refine sj_ifnull 353 hf dJ22_resize_145 (by decide) (fun g145 hf => ?_) (fun p5 g145 hf => ?_)
        · refine sj_aload 0 dJ22_resize_353 rfl ?_
          exact sj_aret (o := sd_oR) hf rfl rfl rfl (Or.inr ⟨_, rfl⟩) dJ22_resize_355
        · subst g145
          cases hf
      · cases hf
    · cases hf
  · subst g6
    cases hf
/-! java/util/HashMap.afterNodeAccess(Ljava/util/HashMap$Node;)V -/
abbrev cJ22_afterNodeAccess : ByteArray := prog_84_method_51_code
def yJ22_afterNodeAccess : MethodName := ⟨RJ22, "afterNodeAccess", "(Ljava/util/HashMap$Node;)V"⟩
theorem dJ22_afterNodeAccess_0 : decode cJ22_afterNodeAccess 0 = .ok (.return_, 1) := by decide +kernel
abbrev mJ22_afterNodeAccess : sd_Y := (yJ22_afterNodeAccess, cJ22_afterNodeAccess, 2, none, none)
def fJ22_afterNodeAccess (G : sd_G) (a0 : Nat) (a1 : Nat) : sd_M Unit :=
  sd_ret ()
set_option maxHeartbeats 4000000 in
theorem sJ22_afterNodeAccess (l : Launch) (G : sd_G) (a0 : Nat) (a1 : Nat) (h : sd_H) (ρ : Unit) (cT : Nat × Nat) (h2 : sd_H) (hf : fJ22_afterNodeAccess G a0 a1 h = some (ρ, cT, h2)) : sd_Met mJ22_afterNodeAccess ((l, G), (0, 0), [.ref a0, .ref a1], (sd_oV ρ, h2), cT) h := by
  refine sd_entry (plainFor_of_name rfl) rfl (Nat.le_of_ble_eq_true rfl) ?_
  show sd_J mJ22_afterNodeAccess ((l, G), (0, 0), [.ref a0, .ref a1], (sd_oV ρ, h2), cT) 0 [(0, .ref a0), (1, .ref a1)] [] h cT
  unfold fJ22_afterNodeAccess at hf
  exact sj_vret (o := sd_oV) hf rfl rfl rfl dJ22_afterNodeAccess_0
/-! java/util/HashMap.afterNodeInsertion(Z)V -/
abbrev cJ22_afterNodeInsertion : ByteArray := prog_84_method_52_code
def yJ22_afterNodeInsertion : MethodName := ⟨RJ22, "afterNodeInsertion", "(Z)V"⟩
theorem dJ22_afterNodeInsertion_0 : decode cJ22_afterNodeInsertion 0 = .ok (.return_, 1) := by decide +kernel
abbrev mJ22_afterNodeInsertion : sd_Y := (yJ22_afterNodeInsertion, cJ22_afterNodeInsertion, 2, none, none)
def fJ22_afterNodeInsertion (G : sd_G) (a0 : Nat) (a1 : Int32) : sd_M Unit :=
  sd_ret ()
set_option maxHeartbeats 4000000 in
theorem sJ22_afterNodeInsertion (l : Launch) (G : sd_G) (a0 : Nat) (a1 : Int32) (h : sd_H) (ρ : Unit) (cT : Nat × Nat) (h2 : sd_H) (hf : fJ22_afterNodeInsertion G a0 a1 h = some (ρ, cT, h2)) : sd_Met mJ22_afterNodeInsertion ((l, G), (0, 0), [.ref a0, .int a1], (sd_oV ρ, h2), cT) h := by
  refine sd_entry (plainFor_of_name rfl) rfl (Nat.le_of_ble_eq_true rfl) ?_
  show sd_J mJ22_afterNodeInsertion ((l, G), (0, 0), [.ref a0, .int a1], (sd_oV ρ, h2), cT) 0 [(0, .ref a0), (1, .int a1)] [] h cT
  unfold fJ22_afterNodeInsertion at hf
  exact sj_vret (o := sd_oV) hf rfl rfl rfl dJ22_afterNodeInsertion_0
/-! java/util/HashMap.putVal(ILjava/lang/Object;Ljava/lang/Object;ZZ)Ljava/lang/Object; -/
abbrev cJ22_putVal : ByteArray := prog_84_method_16_code
def yJ22_putVal : MethodName := ⟨RJ22, "putVal", "(ILjava/lang/Object;Ljava/lang/Object;ZZ)Ljava/lang/Object;"⟩
def dkwJ22_putVal_12 : List UInt8 := [181, 0, 156, 42, 180, 0, 88, 164, 0, 8, 42, 182, 0, 117, 87, 42, 21, 5, 182, 0, 205, 1, 176]
abbrev dktJ22_putVal_12 : List UInt8 := dkwJ22_putVal_12 ++ []
def dkwJ22_putVal_11 : List UInt8 := [182, 0, 198, 25, 12, 176, 42, 89, 180, 0, 202, 4, 96, 181, 0, 202, 42, 89, 180, 0, 156, 4, 96, 90]
abbrev dktJ22_putVal_11 : List UInt8 := dkwJ22_putVal_11 ++ dktJ22_putVal_12
def dkwJ22_putVal_10 : List UInt8 := [180, 0, 162, 58, 12, 21, 4, 153, 0, 8, 25, 12, 199, 0, 9, 25, 10, 45, 181, 0, 162, 42, 25, 10]
abbrev dktJ22_putVal_10 : List UInt8 := dkwJ22_putVal_10 ++ dktJ22_putVal_11
def dkwJ22_putVal_9 : List UInt8 := [153, 0, 6, 167, 0, 13, 25, 10, 58, 7, 132, 12, 1, 167, 255, 171, 25, 10, 198, 0, 35, 25, 10]
abbrev dktJ22_putVal_9 : List UInt8 := dkwJ22_putVal_9 ++ dktJ22_putVal_10
def dkwJ22_putVal_8 : List UInt8 := [25, 10, 180, 0, 170, 89, 58, 11, 44, 165, 0, 29, 44, 198, 0, 15, 44, 25, 11, 182, 0, 173]
abbrev dktJ22_putVal_8 : List UInt8 := dkwJ22_putVal_8 ++ dktJ22_putVal_9
def dkwJ22_putVal_7 : List UInt8 := [16, 7, 161, 0, 60, 42, 25, 6, 27, 182, 0, 194, 167, 0, 50, 25, 10, 180, 0, 168, 27, 160, 0, 31]
abbrev dktJ22_putVal_7 : List UInt8 := dkwJ22_putVal_7 ++ dktJ22_putVal_8
def dkwJ22_putVal_6 : List UInt8 := [180, 0, 177, 89, 58, 10, 199, 0, 33, 25, 7, 42, 27, 44, 45, 1, 182, 0, 186, 181, 0, 177, 21, 12]
abbrev dktJ22_putVal_6 : List UInt8 := dkwJ22_putVal_6 ++ dktJ22_putVal_7
def dkwJ22_putVal_5 : List UInt8 := [192, 0, 180, 42, 25, 6, 27, 44, 45, 182, 0, 190, 58, 10, 167, 0, 94, 3, 54, 12, 25, 7]
abbrev dktJ22_putVal_5 : List UInt8 := dkwJ22_putVal_5 ++ dktJ22_putVal_6
def dkwJ22_putVal_4 : List UInt8 := [182, 0, 173, 153, 0, 10, 25, 7, 58, 10, 167, 0, 121, 25, 7, 193, 0, 180, 153, 0, 22, 25, 7]
abbrev dktJ22_putVal_4 : List UInt8 := dkwJ22_putVal_4 ++ dktJ22_putVal_5
def dkwJ22_putVal_3 : List UInt8 := [160, 0, 35, 25, 7, 180, 0, 170, 89, 58, 11, 44, 165, 0, 16, 44, 198, 0, 19, 44, 25, 11]
abbrev dktJ22_putVal_3 : List UInt8 := dkwJ22_putVal_3 ++ dktJ22_putVal_4
def dkwJ22_putVal_2 : List UInt8 := [25, 6, 21, 9, 42, 27, 44, 45, 1, 182, 0, 186, 83, 167, 0, 199, 25, 7, 180, 0, 168, 27]
abbrev dktJ22_putVal_2 : List UInt8 := dkwJ22_putVal_2 ++ dktJ22_putVal_3
def dkwJ22_putVal_1 : List UInt8 := [58, 6, 190, 54, 8, 25, 6, 21, 8, 4, 100, 27, 126, 89, 54, 9, 50, 89, 58, 7, 199, 0, 19]
abbrev dktJ22_putVal_1 : List UInt8 := dkwJ22_putVal_1 ++ dktJ22_putVal_2
def dkwJ22_putVal_0 : List UInt8 := [42, 180, 0, 105, 89, 58, 6, 198, 0, 12, 25, 6, 190, 89, 54, 8, 154, 0, 13, 42, 182, 0, 117, 89]
abbrev dktJ22_putVal_0 : List UInt8 := dkwJ22_putVal_0 ++ dktJ22_putVal_1
theorem dksJ22_putVal_0 : cJ22_putVal.data.toList.drop 0 = dktJ22_putVal_0 := by decide +kernel
theorem dksJ22_putVal_1 : cJ22_putVal.data.toList.drop 24 = dktJ22_putVal_1 := dk_seg dksJ22_putVal_0 24 rfl rfl
theorem dksJ22_putVal_2 : cJ22_putVal.data.toList.drop 47 = dktJ22_putVal_2 := dk_seg dksJ22_putVal_1 23 rfl rfl
theorem dksJ22_putVal_3 : cJ22_putVal.data.toList.drop 69 = dktJ22_putVal_3 := dk_seg dksJ22_putVal_2 22 rfl rfl
theorem dksJ22_putVal_4 : cJ22_putVal.data.toList.drop 91 = dktJ22_putVal_4 := dk_seg dksJ22_putVal_3 22 rfl rfl
theorem dksJ22_putVal_5 : cJ22_putVal.data.toList.drop 114 = dktJ22_putVal_5 := dk_seg dksJ22_putVal_4 23 rfl rfl
theorem dksJ22_putVal_6 : cJ22_putVal.data.toList.drop 136 = dktJ22_putVal_6 := dk_seg dksJ22_putVal_5 22 rfl rfl
theorem dksJ22_putVal_7 : cJ22_putVal.data.toList.drop 160 = dktJ22_putVal_7 := dk_seg dksJ22_putVal_6 24 rfl rfl
theorem dksJ22_putVal_8 : cJ22_putVal.data.toList.drop 184 = dktJ22_putVal_8 := dk_seg dksJ22_putVal_7 24 rfl rfl
theorem dksJ22_putVal_9 : cJ22_putVal.data.toList.drop 206 = dktJ22_putVal_9 := dk_seg dksJ22_putVal_8 22 rfl rfl
theorem dksJ22_putVal_10 : cJ22_putVal.data.toList.drop 229 = dktJ22_putVal_10 := dk_seg dksJ22_putVal_9 23 rfl rfl
theorem dksJ22_putVal_11 : cJ22_putVal.data.toList.drop 253 = dktJ22_putVal_11 := dk_seg dksJ22_putVal_10 24 rfl rfl
theorem dksJ22_putVal_12 : cJ22_putVal.data.toList.drop 277 = dktJ22_putVal_12 := dk_seg dksJ22_putVal_11 24 rfl rfl
theorem dJ22_putVal_0 : decode cJ22_putVal 0 = .ok (.aload_n 0, 1) := dk_42 (dk_at dksJ22_putVal_0 0 rfl rfl)
theorem dJ22_putVal_1 : decode cJ22_putVal 1 = .ok (.getfield 105, 3) := dk_180 0 105 (dk_at dksJ22_putVal_0 1 rfl rfl)
theorem dJ22_putVal_4 : decode cJ22_putVal 4 = .ok (.dup, 1) := dk_89 (dk_at dksJ22_putVal_0 4 rfl rfl)
theorem dJ22_putVal_5 : decode cJ22_putVal 5 = .ok (.astore 6, 2) := dk_58 6 (dk_at dksJ22_putVal_0 5 rfl rfl)
theorem dJ22_putVal_7 : decode cJ22_putVal 7 = .ok (.ifnull 12, 3) := dk_198 0 12 (dk_at dksJ22_putVal_0 7 rfl rfl)
theorem dJ22_putVal_10 : decode cJ22_putVal 10 = .ok (.aload 6, 2) := dk_25 6 (dk_at dksJ22_putVal_0 10 rfl rfl)
theorem dJ22_putVal_12 : decode cJ22_putVal 12 = .ok (.arraylength, 1) := dk_190 (dk_at dksJ22_putVal_0 12 rfl rfl)
theorem dJ22_putVal_13 : decode cJ22_putVal 13 = .ok (.dup, 1) := dk_89 (dk_at dksJ22_putVal_0 13 rfl rfl)
theorem dJ22_putVal_14 : decode cJ22_putVal 14 = .ok (.istore 8, 2) := dk_54 8 (dk_at dksJ22_putVal_0 14 rfl rfl)
theorem dJ22_putVal_16 : decode cJ22_putVal 16 = .ok (.ifCond .ne 13, 3) := dk_154 0 13 (dk_at dksJ22_putVal_0 16 rfl rfl)
theorem dJ22_putVal_19 : decode cJ22_putVal 19 = .ok (.aload_n 0, 1) := dk_42 (dk_at dksJ22_putVal_0 19 rfl rfl)
theorem dJ22_putVal_20 : decode cJ22_putVal 20 = .ok (.invokevirtual 117, 3) := dk_182 0 117 (dk_at dksJ22_putVal_0 20 rfl rfl)
theorem dJ22_putVal_23 : decode cJ22_putVal 23 = .ok (.dup, 1) := dk_89 (dk_at dksJ22_putVal_0 23 rfl rfl)
theorem dJ22_putVal_24 : decode cJ22_putVal 24 = .ok (.astore 6, 2) := dk_58 6 (dk_at dksJ22_putVal_1 0 rfl rfl)
theorem dJ22_putVal_26 : decode cJ22_putVal 26 = .ok (.arraylength, 1) := dk_190 (dk_at dksJ22_putVal_1 2 rfl rfl)
theorem dJ22_putVal_27 : decode cJ22_putVal 27 = .ok (.istore 8, 2) := dk_54 8 (dk_at dksJ22_putVal_1 3 rfl rfl)
theorem dJ22_putVal_29 : decode cJ22_putVal 29 = .ok (.aload 6, 2) := dk_25 6 (dk_at dksJ22_putVal_1 5 rfl rfl)
theorem dJ22_putVal_31 : decode cJ22_putVal 31 = .ok (.iload 8, 2) := dk_21 8 (dk_at dksJ22_putVal_1 7 rfl rfl)
theorem dJ22_putVal_33 : decode cJ22_putVal 33 = .ok (.iconst 1, 1) := dk_4 (dk_at dksJ22_putVal_1 9 rfl rfl)
theorem dJ22_putVal_34 : decode cJ22_putVal 34 = .ok (.isub, 1) := dk_100 (dk_at dksJ22_putVal_1 10 rfl rfl)
theorem dJ22_putVal_35 : decode cJ22_putVal 35 = .ok (.iload_n 1, 1) := dk_27 (dk_at dksJ22_putVal_1 11 rfl rfl)
theorem dJ22_putVal_36 : decode cJ22_putVal 36 = .ok (.iand, 1) := dk_126 (dk_at dksJ22_putVal_1 12 rfl rfl)
theorem dJ22_putVal_37 : decode cJ22_putVal 37 = .ok (.dup, 1) := dk_89 (dk_at dksJ22_putVal_1 13 rfl rfl)
theorem dJ22_putVal_38 : decode cJ22_putVal 38 = .ok (.istore 9, 2) := dk_54 9 (dk_at dksJ22_putVal_1 14 rfl rfl)
theorem dJ22_putVal_40 : decode cJ22_putVal 40 = .ok (.aaload, 1) := dk_50 (dk_at dksJ22_putVal_1 16 rfl rfl)
theorem dJ22_putVal_41 : decode cJ22_putVal 41 = .ok (.dup, 1) := dk_89 (dk_at dksJ22_putVal_1 17 rfl rfl)
theorem dJ22_putVal_42 : decode cJ22_putVal 42 = .ok (.astore 7, 2) := dk_58 7 (dk_at dksJ22_putVal_1 18 rfl rfl)
theorem dJ22_putVal_44 : decode cJ22_putVal 44 = .ok (.ifnonnull 19, 3) := dk_199 0 19 (dk_at dksJ22_putVal_1 20 rfl rfl)
theorem dJ22_putVal_47 : decode cJ22_putVal 47 = .ok (.aload 6, 2) := dk_25 6 (dk_at dksJ22_putVal_2 0 rfl rfl)
theorem dJ22_putVal_49 : decode cJ22_putVal 49 = .ok (.iload 9, 2) := dk_21 9 (dk_at dksJ22_putVal_2 2 rfl rfl)
theorem dJ22_putVal_51 : decode cJ22_putVal 51 = .ok (.aload_n 0, 1) := dk_42 (dk_at dksJ22_putVal_2 4 rfl rfl)
theorem dJ22_putVal_52 : decode cJ22_putVal 52 = .ok (.iload_n 1, 1) := dk_27 (dk_at dksJ22_putVal_2 5 rfl rfl)
theorem dJ22_putVal_53 : decode cJ22_putVal 53 = .ok (.aload_n 2, 1) := dk_44 (dk_at dksJ22_putVal_2 6 rfl rfl)
theorem dJ22_putVal_54 : decode cJ22_putVal 54 = .ok (.aload_n 3, 1) := dk_45 (dk_at dksJ22_putVal_2 7 rfl rfl)
theorem dJ22_putVal_55 : decode cJ22_putVal 55 = .ok (.aconst_null, 1) := dk_1 (dk_at dksJ22_putVal_2 8 rfl rfl)
theorem dJ22_putVal_56 : decode cJ22_putVal 56 = .ok (.invokevirtual 186, 3) := dk_182 0 186 (dk_at dksJ22_putVal_2 9 rfl rfl)
theorem dJ22_putVal_59 : decode cJ22_putVal 59 = .ok (.aastore, 1) := dk_83 (dk_at dksJ22_putVal_2 12 rfl rfl)
theorem dJ22_putVal_60 : decode cJ22_putVal 60 = .ok (.goto 199, 3) := dk_167 0 199 (dk_at dksJ22_putVal_2 13 rfl rfl)
theorem dJ22_putVal_63 : decode cJ22_putVal 63 = .ok (.aload 7, 2) := dk_25 7 (dk_at dksJ22_putVal_2 16 rfl rfl)
theorem dJ22_putVal_65 : decode cJ22_putVal 65 = .ok (.getfield 168, 3) := dk_180 0 168 (dk_at dksJ22_putVal_2 18 rfl rfl)
theorem dJ22_putVal_68 : decode cJ22_putVal 68 = .ok (.iload_n 1, 1) := dk_27 (dk_at dksJ22_putVal_2 21 rfl rfl)
theorem dJ22_putVal_69 : decode cJ22_putVal 69 = .ok (.if_icmp .ne 35, 3) := dk_160 0 35 (dk_at dksJ22_putVal_3 0 rfl rfl)
theorem dJ22_putVal_72 : decode cJ22_putVal 72 = .ok (.aload 7, 2) := dk_25 7 (dk_at dksJ22_putVal_3 3 rfl rfl)
theorem dJ22_putVal_74 : decode cJ22_putVal 74 = .ok (.getfield 170, 3) := dk_180 0 170 (dk_at dksJ22_putVal_3 5 rfl rfl)
theorem dJ22_putVal_77 : decode cJ22_putVal 77 = .ok (.dup, 1) := dk_89 (dk_at dksJ22_putVal_3 8 rfl rfl)
theorem dJ22_putVal_78 : decode cJ22_putVal 78 = .ok (.astore 11, 2) := dk_58 11 (dk_at dksJ22_putVal_3 9 rfl rfl)
theorem dJ22_putVal_80 : decode cJ22_putVal 80 = .ok (.aload_n 2, 1) := dk_44 (dk_at dksJ22_putVal_3 11 rfl rfl)
theorem dJ22_putVal_81 : decode cJ22_putVal 81 = .ok (.if_acmp .eq 16, 3) := dk_165 0 16 (dk_at dksJ22_putVal_3 12 rfl rfl)
theorem dJ22_putVal_84 : decode cJ22_putVal 84 = .ok (.aload_n 2, 1) := dk_44 (dk_at dksJ22_putVal_3 15 rfl rfl)
theorem dJ22_putVal_85 : decode cJ22_putVal 85 = .ok (.ifnull 19, 3) := dk_198 0 19 (dk_at dksJ22_putVal_3 16 rfl rfl)
theorem dJ22_putVal_88 : decode cJ22_putVal 88 = .ok (.aload_n 2, 1) := dk_44 (dk_at dksJ22_putVal_3 19 rfl rfl)
theorem dJ22_putVal_89 : decode cJ22_putVal 89 = .ok (.aload 11, 2) := dk_25 11 (dk_at dksJ22_putVal_3 20 rfl rfl)
theorem dJ22_putVal_91 : decode cJ22_putVal 91 = .ok (.invokevirtual 173, 3) := dk_182 0 173 (dk_at dksJ22_putVal_4 0 rfl rfl)
theorem dJ22_putVal_94 : decode cJ22_putVal 94 = .ok (.ifCond .eq 10, 3) := dk_153 0 10 (dk_at dksJ22_putVal_4 3 rfl rfl)
theorem dJ22_putVal_97 : decode cJ22_putVal 97 = .ok (.aload 7, 2) := dk_25 7 (dk_at dksJ22_putVal_4 6 rfl rfl)
theorem dJ22_putVal_99 : decode cJ22_putVal 99 = .ok (.astore 10, 2) := dk_58 10 (dk_at dksJ22_putVal_4 8 rfl rfl)
theorem dJ22_putVal_101 : decode cJ22_putVal 101 = .ok (.goto 121, 3) := dk_167 0 121 (dk_at dksJ22_putVal_4 10 rfl rfl)
theorem dJ22_putVal_104 : decode cJ22_putVal 104 = .ok (.aload 7, 2) := dk_25 7 (dk_at dksJ22_putVal_4 13 rfl rfl)
theorem dJ22_putVal_106 : decode cJ22_putVal 106 = .ok (.instanceof 180, 3) := dk_193 0 180 (dk_at dksJ22_putVal_4 15 rfl rfl)
theorem dJ22_putVal_109 : decode cJ22_putVal 109 = .ok (.ifCond .eq 22, 3) := dk_153 0 22 (dk_at dksJ22_putVal_4 18 rfl rfl)
theorem dJ22_putVal_112 : decode cJ22_putVal 112 = .ok (.aload 7, 2) := dk_25 7 (dk_at dksJ22_putVal_4 21 rfl rfl)
theorem dJ22_putVal_114 : decode cJ22_putVal 114 = .ok (.checkcast 180, 3) := dk_192 0 180 (dk_at dksJ22_putVal_5 0 rfl rfl)
theorem dJ22_putVal_117 : decode cJ22_putVal 117 = .ok (.aload_n 0, 1) := dk_42 (dk_at dksJ22_putVal_5 3 rfl rfl)
theorem dJ22_putVal_118 : decode cJ22_putVal 118 = .ok (.aload 6, 2) := dk_25 6 (dk_at dksJ22_putVal_5 4 rfl rfl)
theorem dJ22_putVal_120 : decode cJ22_putVal 120 = .ok (.iload_n 1, 1) := dk_27 (dk_at dksJ22_putVal_5 6 rfl rfl)
theorem dJ22_putVal_121 : decode cJ22_putVal 121 = .ok (.aload_n 2, 1) := dk_44 (dk_at dksJ22_putVal_5 7 rfl rfl)
theorem dJ22_putVal_122 : decode cJ22_putVal 122 = .ok (.aload_n 3, 1) := dk_45 (dk_at dksJ22_putVal_5 8 rfl rfl)
theorem dJ22_putVal_123 : decode cJ22_putVal 123 = .ok (.invokevirtual 190, 3) := dk_182 0 190 (dk_at dksJ22_putVal_5 9 rfl rfl)
theorem dJ22_putVal_126 : decode cJ22_putVal 126 = .ok (.astore 10, 2) := dk_58 10 (dk_at dksJ22_putVal_5 12 rfl rfl)
theorem dJ22_putVal_128 : decode cJ22_putVal 128 = .ok (.goto 94, 3) := dk_167 0 94 (dk_at dksJ22_putVal_5 14 rfl rfl)
theorem dJ22_putVal_131 : decode cJ22_putVal 131 = .ok (.iconst 0, 1) := dk_3 (dk_at dksJ22_putVal_5 17 rfl rfl)
theorem dJ22_putVal_132 : decode cJ22_putVal 132 = .ok (.istore 12, 2) := dk_54 12 (dk_at dksJ22_putVal_5 18 rfl rfl)
theorem dJ22_putVal_134 : decode cJ22_putVal 134 = .ok (.aload 7, 2) := dk_25 7 (dk_at dksJ22_putVal_5 20 rfl rfl)
theorem dJ22_putVal_136 : decode cJ22_putVal 136 = .ok (.getfield 177, 3) := dk_180 0 177 (dk_at dksJ22_putVal_6 0 rfl rfl)
theorem dJ22_putVal_139 : decode cJ22_putVal 139 = .ok (.dup, 1) := dk_89 (dk_at dksJ22_putVal_6 3 rfl rfl)
theorem dJ22_putVal_140 : decode cJ22_putVal 140 = .ok (.astore 10, 2) := dk_58 10 (dk_at dksJ22_putVal_6 4 rfl rfl)
theorem dJ22_putVal_142 : decode cJ22_putVal 142 = .ok (.ifnonnull 33, 3) := dk_199 0 33 (dk_at dksJ22_putVal_6 6 rfl rfl)
theorem dJ22_putVal_145 : decode cJ22_putVal 145 = .ok (.aload 7, 2) := dk_25 7 (dk_at dksJ22_putVal_6 9 rfl rfl)
theorem dJ22_putVal_147 : decode cJ22_putVal 147 = .ok (.aload_n 0, 1) := dk_42 (dk_at dksJ22_putVal_6 11 rfl rfl)
theorem dJ22_putVal_148 : decode cJ22_putVal 148 = .ok (.iload_n 1, 1) := dk_27 (dk_at dksJ22_putVal_6 12 rfl rfl)
theorem dJ22_putVal_149 : decode cJ22_putVal 149 = .ok (.aload_n 2, 1) := dk_44 (dk_at dksJ22_putVal_6 13 rfl rfl)
theorem dJ22_putVal_150 : decode cJ22_putVal 150 = .ok (.aload_n 3, 1) := dk_45 (dk_at dksJ22_putVal_6 14 rfl rfl)
theorem dJ22_putVal_151 : decode cJ22_putVal 151 = .ok (.aconst_null, 1) := dk_1 (dk_at dksJ22_putVal_6 15 rfl rfl)
theorem dJ22_putVal_152 : decode cJ22_putVal 152 = .ok (.invokevirtual 186, 3) := dk_182 0 186 (dk_at dksJ22_putVal_6 16 rfl rfl)
theorem dJ22_putVal_155 : decode cJ22_putVal 155 = .ok (.putfield 177, 3) := dk_181 0 177 (dk_at dksJ22_putVal_6 19 rfl rfl)
theorem dJ22_putVal_158 : decode cJ22_putVal 158 = .ok (.iload 12, 2) := dk_21 12 (dk_at dksJ22_putVal_6 22 rfl rfl)
theorem dJ22_putVal_160 : decode cJ22_putVal 160 = .ok (.bipush 7, 2) := dk_16 7 (dk_at dksJ22_putVal_7 0 rfl rfl)
theorem dJ22_putVal_162 : decode cJ22_putVal 162 = .ok (.if_icmp .lt 60, 3) := dk_161 0 60 (dk_at dksJ22_putVal_7 2 rfl rfl)
theorem dJ22_putVal_165 : decode cJ22_putVal 165 = .ok (.aload_n 0, 1) := dk_42 (dk_at dksJ22_putVal_7 5 rfl rfl)
theorem dJ22_putVal_166 : decode cJ22_putVal 166 = .ok (.aload 6, 2) := dk_25 6 (dk_at dksJ22_putVal_7 6 rfl rfl)
theorem dJ22_putVal_168 : decode cJ22_putVal 168 = .ok (.iload_n 1, 1) := dk_27 (dk_at dksJ22_putVal_7 8 rfl rfl)
theorem dJ22_putVal_169 : decode cJ22_putVal 169 = .ok (.invokevirtual 194, 3) := dk_182 0 194 (dk_at dksJ22_putVal_7 9 rfl rfl)
theorem dJ22_putVal_172 : decode cJ22_putVal 172 = .ok (.goto 50, 3) := dk_167 0 50 (dk_at dksJ22_putVal_7 12 rfl rfl)
theorem dJ22_putVal_175 : decode cJ22_putVal 175 = .ok (.aload 10, 2) := dk_25 10 (dk_at dksJ22_putVal_7 15 rfl rfl)
theorem dJ22_putVal_177 : decode cJ22_putVal 177 = .ok (.getfield 168, 3) := dk_180 0 168 (dk_at dksJ22_putVal_7 17 rfl rfl)
theorem dJ22_putVal_180 : decode cJ22_putVal 180 = .ok (.iload_n 1, 1) := dk_27 (dk_at dksJ22_putVal_7 20 rfl rfl)
theorem dJ22_putVal_181 : decode cJ22_putVal 181 = .ok (.if_icmp .ne 31, 3) := dk_160 0 31 (dk_at dksJ22_putVal_7 21 rfl rfl)
theorem dJ22_putVal_184 : decode cJ22_putVal 184 = .ok (.aload 10, 2) := dk_25 10 (dk_at dksJ22_putVal_8 0 rfl rfl)
theorem dJ22_putVal_186 : decode cJ22_putVal 186 = .ok (.getfield 170, 3) := dk_180 0 170 (dk_at dksJ22_putVal_8 2 rfl rfl)
theorem dJ22_putVal_189 : decode cJ22_putVal 189 = .ok (.dup, 1) := dk_89 (dk_at dksJ22_putVal_8 5 rfl rfl)
theorem dJ22_putVal_190 : decode cJ22_putVal 190 = .ok (.astore 11, 2) := dk_58 11 (dk_at dksJ22_putVal_8 6 rfl rfl)
theorem dJ22_putVal_192 : decode cJ22_putVal 192 = .ok (.aload_n 2, 1) := dk_44 (dk_at dksJ22_putVal_8 8 rfl rfl)
theorem dJ22_putVal_193 : decode cJ22_putVal 193 = .ok (.if_acmp .eq 29, 3) := dk_165 0 29 (dk_at dksJ22_putVal_8 9 rfl rfl)
theorem dJ22_putVal_196 : decode cJ22_putVal 196 = .ok (.aload_n 2, 1) := dk_44 (dk_at dksJ22_putVal_8 12 rfl rfl)
theorem dJ22_putVal_197 : decode cJ22_putVal 197 = .ok (.ifnull 15, 3) := dk_198 0 15 (dk_at dksJ22_putVal_8 13 rfl rfl)
theorem dJ22_putVal_200 : decode cJ22_putVal 200 = .ok (.aload_n 2, 1) := dk_44 (dk_at dksJ22_putVal_8 16 rfl rfl)
theorem dJ22_putVal_201 : decode cJ22_putVal 201 = .ok (.aload 11, 2) := dk_25 11 (dk_at dksJ22_putVal_8 17 rfl rfl)
theorem dJ22_putVal_203 : decode cJ22_putVal 203 = .ok (.invokevirtual 173, 3) := dk_182 0 173 (dk_at dksJ22_putVal_8 19 rfl rfl)
theorem dJ22_putVal_206 : decode cJ22_putVal 206 = .ok (.ifCond .eq 6, 3) := dk_153 0 6 (dk_at dksJ22_putVal_9 0 rfl rfl)
theorem dJ22_putVal_209 : decode cJ22_putVal 209 = .ok (.goto 13, 3) := dk_167 0 13 (dk_at dksJ22_putVal_9 3 rfl rfl)
theorem dJ22_putVal_212 : decode cJ22_putVal 212 = .ok (.aload 10, 2) := dk_25 10 (dk_at dksJ22_putVal_9 6 rfl rfl)
theorem dJ22_putVal_214 : decode cJ22_putVal 214 = .ok (.astore 7, 2) := dk_58 7 (dk_at dksJ22_putVal_9 8 rfl rfl)
theorem dJ22_putVal_216 : decode cJ22_putVal 216 = .ok (.iinc 12 1, 3) := dk_132 12 1 (dk_at dksJ22_putVal_9 10 rfl rfl)
theorem dJ22_putVal_219 : decode cJ22_putVal 219 = .ok (.goto (-85), 3) := dk_167 255 171 (dk_at dksJ22_putVal_9 13 rfl rfl)
theorem dJ22_putVal_222 : decode cJ22_putVal 222 = .ok (.aload 10, 2) := dk_25 10 (dk_at dksJ22_putVal_9 16 rfl rfl)
theorem dJ22_putVal_224 : decode cJ22_putVal 224 = .ok (.ifnull 35, 3) := dk_198 0 35 (dk_at dksJ22_putVal_9 18 rfl rfl)
theorem dJ22_putVal_227 : decode cJ22_putVal 227 = .ok (.aload 10, 2) := dk_25 10 (dk_at dksJ22_putVal_9 21 rfl rfl)
theorem dJ22_putVal_229 : decode cJ22_putVal 229 = .ok (.getfield 162, 3) := dk_180 0 162 (dk_at dksJ22_putVal_10 0 rfl rfl)
theorem dJ22_putVal_232 : decode cJ22_putVal 232 = .ok (.astore 12, 2) := dk_58 12 (dk_at dksJ22_putVal_10 3 rfl rfl)
theorem dJ22_putVal_234 : decode cJ22_putVal 234 = .ok (.iload 4, 2) := dk_21 4 (dk_at dksJ22_putVal_10 5 rfl rfl)
theorem dJ22_putVal_236 : decode cJ22_putVal 236 = .ok (.ifCond .eq 8, 3) := dk_153 0 8 (dk_at dksJ22_putVal_10 7 rfl rfl)
theorem dJ22_putVal_239 : decode cJ22_putVal 239 = .ok (.aload 12, 2) := dk_25 12 (dk_at dksJ22_putVal_10 10 rfl rfl)
theorem dJ22_putVal_241 : decode cJ22_putVal 241 = .ok (.ifnonnull 9, 3) := dk_199 0 9 (dk_at dksJ22_putVal_10 12 rfl rfl)
theorem dJ22_putVal_244 : decode cJ22_putVal 244 = .ok (.aload 10, 2) := dk_25 10 (dk_at dksJ22_putVal_10 15 rfl rfl)
theorem dJ22_putVal_246 : decode cJ22_putVal 246 = .ok (.aload_n 3, 1) := dk_45 (dk_at dksJ22_putVal_10 17 rfl rfl)
theorem dJ22_putVal_247 : decode cJ22_putVal 247 = .ok (.putfield 162, 3) := dk_181 0 162 (dk_at dksJ22_putVal_10 18 rfl rfl)
theorem dJ22_putVal_250 : decode cJ22_putVal 250 = .ok (.aload_n 0, 1) := dk_42 (dk_at dksJ22_putVal_10 21 rfl rfl)
theorem dJ22_putVal_251 : decode cJ22_putVal 251 = .ok (.aload 10, 2) := dk_25 10 (dk_at dksJ22_putVal_10 22 rfl rfl)
theorem dJ22_putVal_253 : decode cJ22_putVal 253 = .ok (.invokevirtual 198, 3) := dk_182 0 198 (dk_at dksJ22_putVal_11 0 rfl rfl)
theorem dJ22_putVal_256 : decode cJ22_putVal 256 = .ok (.aload 12, 2) := dk_25 12 (dk_at dksJ22_putVal_11 3 rfl rfl)
theorem dJ22_putVal_258 : decode cJ22_putVal 258 = .ok (.areturn, 1) := dk_176 (dk_at dksJ22_putVal_11 5 rfl rfl)
theorem dJ22_putVal_259 : decode cJ22_putVal 259 = .ok (.aload_n 0, 1) := dk_42 (dk_at dksJ22_putVal_11 6 rfl rfl)
theorem dJ22_putVal_260 : decode cJ22_putVal 260 = .ok (.dup, 1) := dk_89 (dk_at dksJ22_putVal_11 7 rfl rfl)
theorem dJ22_putVal_261 : decode cJ22_putVal 261 = .ok (.getfield 202, 3) := dk_180 0 202 (dk_at dksJ22_putVal_11 8 rfl rfl)
theorem dJ22_putVal_264 : decode cJ22_putVal 264 = .ok (.iconst 1, 1) := dk_4 (dk_at dksJ22_putVal_11 11 rfl rfl)
theorem dJ22_putVal_265 : decode cJ22_putVal 265 = .ok (.iadd, 1) := dk_96 (dk_at dksJ22_putVal_11 12 rfl rfl)
theorem dJ22_putVal_266 : decode cJ22_putVal 266 = .ok (.putfield 202, 3) := dk_181 0 202 (dk_at dksJ22_putVal_11 13 rfl rfl)
theorem dJ22_putVal_269 : decode cJ22_putVal 269 = .ok (.aload_n 0, 1) := dk_42 (dk_at dksJ22_putVal_11 16 rfl rfl)
theorem dJ22_putVal_270 : decode cJ22_putVal 270 = .ok (.dup, 1) := dk_89 (dk_at dksJ22_putVal_11 17 rfl rfl)
theorem dJ22_putVal_271 : decode cJ22_putVal 271 = .ok (.getfield 156, 3) := dk_180 0 156 (dk_at dksJ22_putVal_11 18 rfl rfl)
theorem dJ22_putVal_274 : decode cJ22_putVal 274 = .ok (.iconst 1, 1) := dk_4 (dk_at dksJ22_putVal_11 21 rfl rfl)
theorem dJ22_putVal_275 : decode cJ22_putVal 275 = .ok (.iadd, 1) := dk_96 (dk_at dksJ22_putVal_11 22 rfl rfl)
theorem dJ22_putVal_276 : decode cJ22_putVal 276 = .ok (.dup_x1, 1) := dk_90 (dk_at dksJ22_putVal_11 23 rfl rfl)
theorem dJ22_putVal_277 : decode cJ22_putVal 277 = .ok (.putfield 156, 3) := dk_181 0 156 (dk_at dksJ22_putVal_12 0 rfl rfl)
theorem dJ22_putVal_280 : decode cJ22_putVal 280 = .ok (.aload_n 0, 1) := dk_42 (dk_at dksJ22_putVal_12 3 rfl rfl)
theorem dJ22_putVal_281 : decode cJ22_putVal 281 = .ok (.getfield 88, 3) := dk_180 0 88 (dk_at dksJ22_putVal_12 4 rfl rfl)
theorem dJ22_putVal_284 : decode cJ22_putVal 284 = .ok (.if_icmp .le 8, 3) := dk_164 0 8 (dk_at dksJ22_putVal_12 7 rfl rfl)
theorem dJ22_putVal_287 : decode cJ22_putVal 287 = .ok (.aload_n 0, 1) := dk_42 (dk_at dksJ22_putVal_12 10 rfl rfl)
theorem dJ22_putVal_288 : decode cJ22_putVal 288 = .ok (.invokevirtual 117, 3) := dk_182 0 117 (dk_at dksJ22_putVal_12 11 rfl rfl)
theorem dJ22_putVal_291 : decode cJ22_putVal 291 = .ok (.pop, 1) := dk_87 (dk_at dksJ22_putVal_12 14 rfl rfl)
theorem dJ22_putVal_292 : decode cJ22_putVal 292 = .ok (.aload_n 0, 1) := dk_42 (dk_at dksJ22_putVal_12 15 rfl rfl)
theorem dJ22_putVal_293 : decode cJ22_putVal 293 = .ok (.iload 5, 2) := dk_21 5 (dk_at dksJ22_putVal_12 16 rfl rfl)
theorem dJ22_putVal_295 : decode cJ22_putVal 295 = .ok (.invokevirtual 205, 3) := dk_182 0 205 (dk_at dksJ22_putVal_12 18 rfl rfl)
theorem dJ22_putVal_298 : decode cJ22_putVal 298 = .ok (.aconst_null, 1) := dk_1 (dk_at dksJ22_putVal_12 21 rfl rfl)
theorem dJ22_putVal_299 : decode cJ22_putVal 299 = .ok (.areturn, 1) := dk_176 (dk_at dksJ22_putVal_12 22 rfl rfl)
theorem fdJ22_202_43 : sd_Fd "java/util/HashMap" 202 43 5 := ⟨(RJ22, TJ22, 8), "java/util/HashMap", rfl, by decide, rfl, in_J22, Or.inl rfl, Or.inl q939⟩
theorem fpJ22_202_43 (n d : String) : sd_Fp ⟨"java/util/HashMap", n, d⟩ 202 43 5 .int := ⟨(RJ22, TJ22, 8), "java/util/HashMap", tyJ22, rfl, by decide, rfl, in_J22, Or.inl rfl, tyJ22_ok, nmJ22, rfl, Or.inl ⟨rfl, Or.inl q939⟩⟩
theorem fpJ22_156_43 (n d : String) : sd_Fp ⟨"java/util/HashMap", n, d⟩ 156 43 4 .int := ⟨(RJ22, TJ22, 8), "java/util/HashMap", tyJ22, rfl, by decide, rfl, in_J22, Or.inl rfl, tyJ22_ok, nmJ22, rfl, Or.inl ⟨rfl, Or.inl q938⟩⟩
theorem fpJ22_177_44 (n d : String) : sd_Fp ⟨"java/util/HashMap", n, d⟩ 177 44 3 (.object "java/util/HashMap$Node") := ⟨(RJ26, TJ26, 4), "java/util/HashMap$Node", tyJ26, rfl, by decide, rfl, in_J26, Or.inl rfl, tyJ26_ok, nmJ26, rfl, Or.inl ⟨rfl, Or.inl q1711⟩⟩
theorem fpJ22_162_44 (n d : String) : sd_Fp ⟨"java/util/HashMap", n, d⟩ 162 44 2 (.object "java/lang/Object") := ⟨(RJ26, TJ26, 4), "java/util/HashMap$Node", tyJ26, rfl, by decide, rfl, in_J26, Or.inl rfl, tyJ26_ok, nmJ26, rfl, Or.inl ⟨rfl, Or.inl q1706⟩⟩
abbrev mJ22_putVal : sd_Y := (yJ22_putVal, cJ22_putVal, 13, some (.object "java/lang/Object"), none)
def fJ22_putVal_b259 (G : sd_G) (w0 : Nat) (w5 : Int32) : sd_M (Option Nat) :=
  sd_bnd (sd_getI G 43 5 w0) fun v9 =>
  sd_bnd (sd_put 43 5 .int w0 (.int (v9 + 1))) fun _ =>
  sd_bnd (sd_getI G 43 4 w0) fun v10 =>
  sd_bnd (sd_ret (v10 + 1)) fun x11 =>
  sd_bnd (sd_put 43 4 .int w0 (.int x11)) fun _ =>
  sd_bnd (sd_getI G 43 6 w0) fun v12 =>
  if x11 ≤ v12 then (
    sd_bnd (sd_isC G 43 w0) fun _ =>
    sd_bnd (fJ22_afterNodeInsertion G w0 w5) fun _ =>
    sd_ret none)
  else (
    sd_fail)
set_option maxHeartbeats 4000000 in
theorem sJ22_putVal_b259 (l : Launch) (G : sd_G) (a0 : Nat) (a1 : Int32) (a2 : Nat) (a3 : Nat) (a4 : Int32) (a5 : Int32) (ρ : Option Nat) (h2 : sd_H) (cT : Nat × Nat) (w0 : Nat) (w5 : Int32) (h : sd_H) (c : Nat × Nat) (hf : fJ22_putVal_b259 G w0 w5 h = some (ρ, c, h2)) : sd_J mJ22_putVal ((l, G), (3, 60), [.ref a0, .int a1, .ref a2, .ref a3, .int a4, .int a5], (sd_oQ ρ, h2), cT) 259 [(0, .ref w0), (5, .int w5)] [] h c := by
  unfold fJ22_putVal_b259 at hf
  refine sj_aload_n 0 dJ22_putVal_259 rfl ?_
  refine sj_dup dJ22_putVal_260 rfl ?_
  refine sj_getI fdJ22_202_43 hf dJ22_putVal_261 (fun v9 hf => ?_)
  refine sj_iconst (v := 1) dJ22_putVal_264 (by decide) ?_
  refine sj_iadd dJ22_putVal_265 ?_
  refine sj_put (fpJ22_202_43 _ _) hf dJ22_putVal_266 (fun h hf => ?_)
  refine sj_aload_n 0 dJ22_putVal_269 rfl ?_
  refine sj_dup dJ22_putVal_270 rfl ?_
  refine sj_getI fdJ22_156_43 hf dJ22_putVal_271 (fun v10 hf => ?_)
  refine sj_iconst (v := 1) dJ22_putVal_274 (by decide) ?_
  refine sj_iadd dJ22_putVal_275 ?_
  refine sj_nameI hf (fun x11 hf => ?_)
  refine sj_dup_x1 dJ22_putVal_276 rfl rfl ?_
  refine sj_put (fpJ22_156_43 _ _) hf dJ22_putVal_277 (fun h hf => ?_)
  refine sj_aload_n 0 dJ22_putVal_280 rfl ?_
  refine sj_getI fdJ22_88_43 hf dJ22_putVal_281 (fun v12 hf => ?_)
  refine sj_icle 292 hf dJ22_putVal_284 (by decide) (fun g284 hf => ?_) (fun g284 hf => ?_)
  · refine sj_aload_n 0 dJ22_putVal_292 rfl ?_
    refine sj_iload 1 dJ22_putVal_293 rfl ?_
    obtain ⟨fs295, he295, hf⟩ := sd_isC_some hf
    refine sj_cV (rest := []) (fun _ _ _ e => sj_runV (n := 1) (As := [.int w5]) (rest := []) (sJ22_afterNodeInsertion l G w0 w5 h _ _ _ e) he295 rfl rfl rfl rfl q1798 q1799 q1800 q149 q1801 (by decide +kernel) rfl rfl ⟨Nat.le_of_ble_eq_true rfl, Nat.le_of_ble_eq_true rfl⟩ rfl (Nat.le_of_ble_eq_true rfl) dJ22_putVal_295) hf (fun h c hf => ?_)
    refine sj_null dJ22_putVal_298 ?_
    exact sj_aretQ (o := sd_oQ) (x := none) hf rfl rfl rfl (Or.inl ⟨_, rfl⟩) dJ22_putVal_299
  · cases hf
def fJ22_putVal_b244 (G : sd_G) (w0 : Nat) (w3 : Nat) (w10 : Nat) (w12 : Nat) : sd_M (Option Nat) :=
  sd_bnd (sd_put 44 2 (.object "java/lang/Object") w10 (.ref w3)) fun _ =>
  sd_bnd (sd_isC G 43 w0) fun _ =>
  sd_bnd (fJ22_afterNodeAccess G w0 w10) fun _ =>
  sd_ret (some w12)
set_option maxHeartbeats 4000000 in
theorem sJ22_putVal_b244 (l : Launch) (G : sd_G) (a0 : Nat) (a1 : Int32) (a2 : Nat) (a3 : Nat) (a4 : Int32) (a5 : Int32) (ρ : Option Nat) (h2 : sd_H) (cT : Nat × Nat) (w0 : Nat) (w3 : Nat) (w10 : Nat) (w12 : Nat) (h : sd_H) (c : Nat × Nat) (hf : fJ22_putVal_b244 G w0 w3 w10 w12 h = some (ρ, c, h2)) : sd_J mJ22_putVal ((l, G), (3, 60), [.ref a0, .int a1, .ref a2, .ref a3, .int a4, .int a5], (sd_oQ ρ, h2), cT) 244 [(0, .ref w0), (3, .ref w3), (10, .ref w10), (12, .ref w12)] [] h c := by
  unfold fJ22_putVal_b244 at hf
  refine sj_aload 2 dJ22_putVal_244 rfl ?_
  refine sj_aload_n 1 dJ22_putVal_246 rfl ?_
  refine sj_put (fpJ22_162_44 _ _) hf dJ22_putVal_247 (fun h hf => ?_)
  refine sj_aload_n 0 dJ22_putVal_250 rfl ?_
  refine sj_aload 2 dJ22_putVal_251 rfl ?_
  obtain ⟨fs253, he253, hf⟩ := sd_isC_some hf
  refine sj_cV (rest := []) (fun _ _ _ e => sj_runV (n := 1) (As := [.ref w10]) (rest := []) (sJ22_afterNodeAccess l G w0 w10 h _ _ _ e) he253 rfl rfl rfl rfl q1794 q1795 q1796 q149 q1797 (by decide +kernel) rfl rfl ⟨Nat.le_of_ble_eq_true rfl, Nat.le_of_ble_eq_true rfl⟩ rfl (Nat.le_of_ble_eq_true rfl) dJ22_putVal_253) hf (fun h c hf => ?_)
  refine sj_aload 3 dJ22_putVal_256 rfl ?_
  exact sj_aretQ (o := sd_oQ) (x := (some w12)) hf rfl rfl rfl (Or.inl ⟨_, rfl⟩) dJ22_putVal_258
def fJ22_putVal_b222 (G : sd_G) (w0 : Nat) (w3 : Nat) (w4 : Int32) (w5 : Int32) (w10 : Option Nat) : sd_M (Option Nat) :=
  match w10 with
  | none =>
    fJ22_putVal_b259 G w0 w5
  | some p17 =>
    sd_bnd (sd_getR G 44 2 p17) fun v18 =>
    if w4 = 0 then (
      fJ22_putVal_b244 G w0 w3 p17 v18)
    else (
      sd_bnd (sd_isC G 43 w0) fun _ =>
      sd_bnd (fJ22_afterNodeAccess G w0 p17) fun _ =>
      sd_ret (some v18))
set_option maxHeartbeats 4000000 in
theorem sJ22_putVal_b222 (l : Launch) (G : sd_G) (a0 : Nat) (a1 : Int32) (a2 : Nat) (a3 : Nat) (a4 : Int32) (a5 : Int32) (ρ : Option Nat) (h2 : sd_H) (cT : Nat × Nat) (w0 : Nat) (w3 : Nat) (w4 : Int32) (w5 : Int32) (w10 : Option Nat) (h : sd_H) (c : Nat × Nat) (hf : fJ22_putVal_b222 G w0 w3 w4 w5 w10 h = some (ρ, c, h2)) : sd_J mJ22_putVal ((l, G), (3, 60), [.ref a0, .int a1, .ref a2, .ref a3, .int a4, .int a5], (sd_oQ ρ, h2), cT) 222 [(0, .ref w0), (3, .ref w3), (4, .int w4), (5, .int w5), (10, va_rf w10)] [] h c := by
  unfold fJ22_putVal_b222 at hf
  refine sj_aloadQ 4 dJ22_putVal_222 rfl ?_
  refine sj_ifnull 259 hf dJ22_putVal_224 (by decide) (fun g224 hf => ?_) (fun p17 g224 hf => ?_)
  · exact sj_loc [0, 3] rfl (sJ22_putVal_b259 l G a0 a1 a2 a3 a4 a5 ρ h2 cT w0 w5 _ _ hf)
  · subst g224
    refine sj_aload 4 dJ22_putVal_227 rfl ?_
    refine sj_getR fdJ22_162_44 hf dJ22_putVal_229 (fun v18 hf => ?_)
    refine sj_astore [(12, .ref v18), (0, .ref w0), (3, .ref w3), (4, .int w4), (5, .int w5), (10, .ref p17)] dJ22_putVal_232 (by decide) rfl ?_
    refine sj_iload 3 dJ22_putVal_234 rfl ?_
    refine sj_ifeq 244 hf dJ22_putVal_236 (by decide) (fun g236 hf => ?_) (fun g236 hf => ?_)
    · exact sj_loc [1, 2, 5, 0] rfl (sJ22_putVal_b244 l G a0 a1 a2 a3 a4 a5 ρ h2 cT w0 w3 p17 v18 _ _ hf)
    · refine sj_aload 0 dJ22_putVal_239 rfl ?_
      refine sj_ifnonnullR 250 dJ22_putVal_241 (by decide) ?_
      refine sj_aload_n 1 dJ22_putVal_250 rfl ?_
      refine sj_aload 5 dJ22_putVal_251 rfl ?_
      obtain ⟨fs253, he253, hf⟩ := sd_isC_some hf
      refine sj_cV (rest := []) (fun _ _ _ e => sj_runV (n := 1) (As := [.ref p17]) (rest := []) (sJ22_afterNodeAccess l G w0 p17 h _ _ _ e) he253 rfl rfl rfl rfl q1794 q1795 q1796 q149 q1797 (by decide +kernel) rfl rfl ⟨Nat.le_of_ble_eq_true rfl, Nat.le_of_ble_eq_true rfl⟩ rfl (Nat.le_of_ble_eq_true rfl) dJ22_putVal_253) hf (fun h c hf => ?_)
      refine sj_aload 0 dJ22_putVal_256 rfl ?_
      exact sj_aretQ (o := sd_oQ) (x := (some v18)) hf rfl rfl rfl (Or.inl ⟨_, rfl⟩) dJ22_putVal_258
def fJ22_putVal_b134 (G : sd_G) (k134 : Nat × Int32 × Nat × Nat × Int32 × Int32 × Nat × Int32 → sd_M (Option Nat)) (w0 : Nat) (w1 : Int32) (w2 : Nat) (w3 : Nat) (w4 : Int32) (w5 : Int32) (w7 : Nat) (w12 : Int32) : sd_M (Option Nat) :=
  sd_bnd (sd_getQ G 44 3 w7) fun v14 =>
  match v14 with
  | none =>
    sd_bnd (sd_isC G 43 w0) fun _ =>
    sd_bnd (fJ22_newNode G w0 w1 w2 w3 none) fun r16 =>
    sd_bnd (sd_put 44 3 (.object "java/util/HashMap$Node") w7 (.ref r16)) fun _ =>
    if w12 < 7 then (
      fJ22_putVal_b222 G w0 w3 w4 w5 v14)
    else (
      sd_fail)
  | some p15 =>
    sd_bnd (sd_getI G 44 0 p15) fun v19 =>
    if v19 = w1 then (
      sd_bnd (sd_getR G 44 1 p15) fun v21 =>
      if v21 = w2 then (
        fJ22_putVal_b222 G w0 w3 w4 w5 (some p15))
      else (
        sd_bnd (sd_isC G 45 w2) fun _ =>
        sd_bnd (fJ14_equals G w2 v21) fun r22 =>
        if r22 = 0 then (
          sd_bnd (sd_ret (w12 + 1)) fun x23 =>
          k134 (w0, w1, w2, w3, w4, w5, p15, x23))
        else (
          fJ22_putVal_b222 G w0 w3 w4 w5 (some p15))))
    else (
      sd_bnd (sd_ret (w12 + 1)) fun x20 =>
      k134 (w0, w1, w2, w3, w4, w5, p15, x20))
set_option maxHeartbeats 4000000 in
theorem sJ22_putVal_b134 (l : Launch) (G : sd_G) (a0 : Nat) (a1 : Int32) (a2 : Nat) (a3 : Nat) (a4 : Int32) (a5 : Int32) (ρ : Option Nat) (h2 : sd_H) (cT : Nat × Nat) (k134 : Nat × Int32 × Nat × Nat × Int32 × Int32 × Nat × Int32 → sd_M (Option Nat)) (Hk134 : ∀ (q : Nat × Int32 × Nat × Nat × Int32 × Int32 × Nat × Int32) (h : sd_H) (c : Nat × Nat), k134 q h = some (ρ, c, h2) → sd_J mJ22_putVal ((l, G), (3, 60), [.ref a0, .int a1, .ref a2, .ref a3, .int a4, .int a5], (sd_oQ ρ, h2), cT) 134 [(0, .ref q.1), (1, .int q.2.1), (2, .ref q.2.2.1), (3, .ref q.2.2.2.1), (4, .int q.2.2.2.2.1), (5, .int q.2.2.2.2.2.1), (7, .ref q.2.2.2.2.2.2.1), (12, .int q.2.2.2.2.2.2.2)] [] h c) (w0 : Nat) (w1 : Int32) (w2 : Nat) (w3 : Nat) (w4 : Int32) (w5 : Int32) (w7 : Nat) (w12 : Int32) (h : sd_H) (c : Nat × Nat) (hf : fJ22_putVal_b134 G k134 w0 w1 w2 w3 w4 w5 w7 w12 h = some (ρ, c, h2)) : sd_J mJ22_putVal ((l, G), (3, 60), [.ref a0, .int a1, .ref a2, .ref a3, .int a4, .int a5], (sd_oQ ρ, h2), cT) 134 [(0, .ref w0), (1, .int w1), (2, .ref w2), (3, .ref w3), (4, .int w4), (5, .int w5), (7, .ref w7), (12, .int w12)] [] h c := by
  unfold fJ22_putVal_b134 at hf
  refine sj_aload 6 dJ22_putVal_134 rfl ?_
  refine sj_getQ fdJ22_177_44 hf dJ22_putVal_136 (fun v14 hf => ?_)
  refine sj_dup dJ22_putVal_139 (sd_cat1 _) ?_
  refine sj_astoreQ [(10, va_rf v14), (0, .ref w0), (1, .int w1), (2, .ref w2), (3, .ref w3), (4, .int w4), (5, .int w5), (7, .ref w7), (12, .int w12)] dJ22_putVal_140 (by decide) rfl ?_
  refine sj_ifnonnull 175 hf dJ22_putVal_142 (by decide) (fun g142 hf => ?_) (fun p15 g142 hf => ?_)
  · refine sj_aload 7 dJ22_putVal_145 rfl ?_
    refine sj_aload_n 1 dJ22_putVal_147 rfl ?_
    refine sj_iload_n 2 dJ22_putVal_148 rfl ?_
    refine sj_aload_n 3 dJ22_putVal_149 rfl ?_
    refine sj_aload_n 4 dJ22_putVal_150 rfl ?_
    refine sj_null dJ22_putVal_151 ?_
    obtain ⟨fs152, he152, hf⟩ := sd_isC_some hf
    refine sj_cR (rest := [.ref w7]) (fun _ _ _ e => sj_runV (n := 4) (As := [.int w1, .ref w2, .ref w3, va_rf none]) (rest := [.ref w7]) (sJ22_newNode l G w0 w1 w2 w3 none h _ _ _ e) he152 rfl rfl rfl rfl q1740 q1741 q1742 q149 q1743 (by decide +kernel) rfl rfl ⟨Nat.le_of_ble_eq_true rfl, Nat.le_of_ble_eq_true rfl⟩ rfl (Nat.le_of_ble_eq_true rfl) dJ22_putVal_152) hf (fun r16 h c hf => ?_)
    refine sj_put (fpJ22_177_44 _ _) hf dJ22_putVal_155 (fun h hf => ?_)
    refine sj_iload 8 dJ22_putVal_158 rfl ?_
    refine sj_bipush (v := 7) dJ22_putVal_160 (by decide) ?_
    refine sj_iclt 222 hf dJ22_putVal_162 (by decide) (fun g162 hf => ?_) (fun g162 hf => ?_)
    · exact sj_loc [1, 4, 5, 6, 0] rfl (sJ22_putVal_b222 l G a0 a1 a2 a3 a4 a5 ρ h2 cT w0 w3 w4 w5 v14 _ _ hf)
    · cases hf
  · subst g142
    refine sj_aload 0 dJ22_putVal_175 rfl ?_
    refine sj_getI fdJ22_168_44 hf dJ22_putVal_177 (fun v19 hf => ?_)
    refine sj_iload_n 2 dJ22_putVal_180 rfl ?_
    refine sj_icne 212 hf dJ22_putVal_181 (by decide) (fun g181 hf => ?_) (fun g181 hf => ?_)
    · refine sj_aload 0 dJ22_putVal_212 rfl ?_
      refine sj_astore [(7, .ref p15), (10, .ref p15), (0, .ref w0), (1, .int w1), (2, .ref w2), (3, .ref w3), (4, .int w4), (5, .int w5), (12, .int w12)] dJ22_putVal_214 (by decide) rfl ?_
      refine sj_iincN 8 (fun x20 => [(12, .int x20), (7, .ref p15), (10, .ref p15), (0, .ref w0), (1, .int w1), (2, .ref w2), (3, .ref w3), (4, .int w4), (5, .int w5)]) 1 hf dJ22_putVal_216 rfl (by decide) (by decide) (fun _ => rfl) (fun x20 hf => ?_)
      refine sj_goto 134 dJ22_putVal_219 (by decide) ?_
      exact sj_loc [3, 4, 5, 6, 7, 8, 1, 0] rfl (Hk134 (w0, w1, w2, w3, w4, w5, p15, x20) _ _ hf)
    · refine sj_aload 0 dJ22_putVal_184 rfl ?_
      refine sj_getR fdJ22_170_44 hf dJ22_putVal_186 (fun v21 hf => ?_)
      refine sj_dup dJ22_putVal_189 rfl ?_
      refine sj_astore [(11, .ref v21), (10, .ref p15), (0, .ref w0), (1, .int w1), (2, .ref w2), (3, .ref w3), (4, .int w4), (5, .int w5), (7, .ref w7), (12, .int w12)] dJ22_putVal_190 (by decide) rfl ?_
      refine sj_aload_n 4 dJ22_putVal_192 rfl ?_
      refine sj_aceqR 222 hf dJ22_putVal_193 (by decide) (fun g193 hf => ?_) (fun g193 hf => ?_)
      · exact sj_loc [2, 5, 6, 7, 1] rfl (sJ22_putVal_b222 l G a0 a1 a2 a3 a4 a5 ρ h2 cT w0 w3 w4 w5 (some p15) _ _ hf)
      · refine sj_aload_n 4 dJ22_putVal_196 rfl ?_
        refine sj_ifnullR dJ22_putVal_197 ?_
        refine sj_aload_n 4 dJ22_putVal_200 rfl ?_
        refine sj_aload 0 dJ22_putVal_201 rfl ?_
        obtain ⟨fs203, he203, hf⟩ := sd_isC_some hf
        refine sj_cI (rest := []) (fun _ _ _ e => sj_runU (n := 1) (owner := "java/lang/Object") (As := [.ref v21]) (rest := []) (sJ14_equals l G w2 v21 h _ _ _ e) he203 rfl rfl rfl q1238 q1240 q1296 q852 q141 q854 (Or.inr (Or.inl q1237)) (by decide +kernel) rfl rfl (fun _ z => by cases z) ⟨Nat.le_of_ble_eq_true rfl, Nat.le_of_ble_eq_true rfl⟩ rfl (Nat.le_of_ble_eq_true rfl) dJ22_putVal_203) hf (fun r22 h c hf => ?_)
        refine sj_ifeq 212 hf dJ22_putVal_206 (by decide) (fun g206 hf => ?_) (fun g206 hf => ?_)
        · refine sj_aload 1 dJ22_putVal_212 rfl ?_
          refine sj_astore [(7, .ref p15), (11, .ref v21), (10, .ref p15), (0, .ref w0), (1, .int w1), (2, .ref w2), (3, .ref w3), (4, .int w4), (5, .int w5), (12, .int w12)] dJ22_putVal_214 (by decide) rfl ?_
          refine sj_iincN 9 (fun x23 => [(12, .int x23), (7, .ref p15), (11, .ref v21), (10, .ref p15), (0, .ref w0), (1, .int w1), (2, .ref w2), (3, .ref w3), (4, .int w4), (5, .int w5)]) 1 hf dJ22_putVal_216 rfl (by decide) (by decide) (fun _ => rfl) (fun x23 hf => ?_)
          refine sj_goto 134 dJ22_putVal_219 (by decide) ?_
          exact sj_loc [4, 5, 6, 7, 8, 9, 1, 0] rfl (Hk134 (w0, w1, w2, w3, w4, w5, p15, x23) _ _ hf)
        · refine sj_goto 222 dJ22_putVal_209 (by decide) ?_
          exact sj_loc [2, 5, 6, 7, 1] rfl (sJ22_putVal_b222 l G a0 a1 a2 a3 a4 a5 ρ h2 cT w0 w3 w4 w5 (some p15) _ _ hf)
theorem sJ22_putVal_b134_loop (l : Launch) (G : sd_G) (a0 : Nat) (a1 : Int32) (a2 : Nat) (a3 : Nat) (a4 : Int32) (a5 : Int32) (ρ : Option Nat) (h2 : sd_H) (cT : Nat × Nat) (n : Nat) : ∀ (q : Nat × Int32 × Nat × Nat × Int32 × Int32 × Nat × Int32) (h : sd_H) (c : Nat × Nat), sd_loop (fun k s => fJ22_putVal_b134 G k s.1 s.2.1 s.2.2.1 s.2.2.2.1 s.2.2.2.2.1 s.2.2.2.2.2.1 s.2.2.2.2.2.2.1 s.2.2.2.2.2.2.2) n q h = some (ρ, c, h2) → sd_J mJ22_putVal ((l, G), (3, 60), [.ref a0, .int a1, .ref a2, .ref a3, .int a4, .int a5], (sd_oQ ρ, h2), cT) 134 [(0, .ref q.1), (1, .int q.2.1), (2, .ref q.2.2.1), (3, .ref q.2.2.2.1), (4, .int q.2.2.2.2.1), (5, .int q.2.2.2.2.2.1), (7, .ref q.2.2.2.2.2.2.1), (12, .int q.2.2.2.2.2.2.2)] [] h c := by
  induction n with
  | zero => intro q h c hf; cases hf
  | succ n ih => intro q h c hf; exact sJ22_putVal_b134 l G a0 a1 a2 a3 a4 a5 ρ h2 cT _ ih _ _ _ _ _ _ _ _ _ _ hf
def fJ22_putVal_b97 (G : sd_G) (w0 : Nat) (w3 : Nat) (w4 : Int32) (w5 : Int32) (w7 : Nat) : sd_M (Option Nat) :=
  fJ22_putVal_b222 G w0 w3 w4 w5 (some w7)
set_option maxHeartbeats 4000000 in
theorem sJ22_putVal_b97 (l : Launch) (G : sd_G) (a0 : Nat) (a1 : Int32) (a2 : Nat) (a3 : Nat) (a4 : Int32) (a5 : Int32) (ρ : Option Nat) (h2 : sd_H) (cT : Nat × Nat) (w0 : Nat) (w3 : Nat) (w4 : Int32) (w5 : Int32) (w7 : Nat) (h : sd_H) (c : Nat × Nat) (hf : fJ22_putVal_b97 G w0 w3 w4 w5 w7 h = some (ρ, c, h2)) : sd_J mJ22_putVal ((l, G), (3, 60), [.ref a0, .int a1, .ref a2, .ref a3, .int a4, .int a5], (sd_oQ ρ, h2), cT) 97 [(0, .ref w0), (3, .ref w3), (4, .int w4), (5, .int w5), (7, .ref w7)] [] h c := by
  unfold fJ22_putVal_b97 at hf
  refine sj_aload 4 dJ22_putVal_97 rfl ?_
  refine sj_astore [(10, .ref w7), (0, .ref w0), (3, .ref w3), (4, .int w4), (5, .int w5), (7, .ref w7)] dJ22_putVal_99 (by decide) rfl ?_
  refine sj_goto 222 dJ22_putVal_101 (by decide) ?_
  exact sj_loc [1, 2, 3, 4, 0] rfl (sJ22_putVal_b222 l G a0 a1 a2 a3 a4 a5 ρ h2 cT w0 w3 w4 w5 (some w7) _ _ hf)
def fJ22_putVal_b29 (G : sd_G) (w0 : Nat) (w1 : Int32) (w2 : Nat) (w3 : Nat) (w4 : Int32) (w5 : Int32) (w6 : Nat) (w8 : Int32) : sd_M (Option Nat) :=
  sd_bnd (sd_ret ((w8 - 1) &&& w1)) fun x5 =>
  sd_bnd (sd_aldQ G 5 w6 x5) fun v6 =>
  match v6 with
  | none =>
    sd_bnd (sd_isC G 43 w0) fun _ =>
    sd_bnd (fJ22_newNode G w0 w1 w2 w3 none) fun r8 =>
    sd_bnd (sd_astQ G 5 w6 x5 (some r8)) fun _ =>
    fJ22_putVal_b259 G w0 w5
  | some p7 =>
    sd_bnd (sd_getI G 44 0 p7) fun v13 =>
    if v13 = w1 then (
      sd_bnd (sd_getR G 44 1 p7) fun v24 =>
      if v24 = w2 then (
        fJ22_putVal_b97 G w0 w3 w4 w5 p7)
      else (
        sd_bnd (sd_isC G 45 w2) fun _ =>
        sd_bnd (fJ14_equals G w2 v24) fun r25 =>
        if r25 = 0 then (
          sd_bnd (sd_isC G 44 p7) fun _ =>
          sd_loop (fun k s => fJ22_putVal_b134 G k s.1 s.2.1 s.2.2.1 s.2.2.2.1 s.2.2.2.2.1 s.2.2.2.2.2.1 s.2.2.2.2.2.2.1 s.2.2.2.2.2.2.2) sd_FU (w0, w1, w2, w3, w4, w5, p7, 0))
        else (
          fJ22_putVal_b97 G w0 w3 w4 w5 p7)))
    else (
      sd_bnd (sd_isC G 44 p7) fun _ =>
      sd_loop (fun k s => fJ22_putVal_b134 G k s.1 s.2.1 s.2.2.1 s.2.2.2.1 s.2.2.2.2.1 s.2.2.2.2.2.1 s.2.2.2.2.2.2.1 s.2.2.2.2.2.2.2) sd_FU (w0, w1, w2, w3, w4, w5, p7, 0))
set_option maxHeartbeats 4000000 in
theorem sJ22_putVal_b29 (l : Launch) (G : sd_G) (a0 : Nat) (a1 : Int32) (a2 : Nat) (a3 : Nat) (a4 : Int32) (a5 : Int32) (ρ : Option Nat) (h2 : sd_H) (cT : Nat × Nat) (w0 : Nat) (w1 : Int32) (w2 : Nat) (w3 : Nat) (w4 : Int32) (w5 : Int32) (w6 : Nat) (w8 : Int32) (h : sd_H) (c : Nat × Nat) (hf : fJ22_putVal_b29 G w0 w1 w2 w3 w4 w5 w6 w8 h = some (ρ, c, h2)) : sd_J mJ22_putVal ((l, G), (3, 60), [.ref a0, .int a1, .ref a2, .ref a3, .int a4, .int a5], (sd_oQ ρ, h2), cT) 29 [(0, .ref w0), (1, .int w1), (2, .ref w2), (3, .ref w3), (4, .int w4), (5, .int w5), (6, .ref w6), (8, .int w8)] [] h c := by
  unfold fJ22_putVal_b29 at hf
  refine sj_aload 6 dJ22_putVal_29 rfl ?_
  refine sj_iload 7 dJ22_putVal_31 rfl ?_
  refine sj_iconst (v := 1) dJ22_putVal_33 (by decide) ?_
  refine sj_isub dJ22_putVal_34 ?_
  refine sj_iload_n 1 dJ22_putVal_35 rfl ?_
  refine sj_iand dJ22_putVal_36 ?_
  refine sj_nameI hf (fun x5 hf => ?_)
  refine sj_dup dJ22_putVal_37 rfl ?_
  refine sj_istore [(9, .int x5), (0, .ref w0), (1, .int w1), (2, .ref w2), (3, .ref w3), (4, .int w4), (5, .int w5), (6, .ref w6), (8, .int w8)] dJ22_putVal_38 (by decide) rfl ?_
  refine sj_aaldQ rfl rfl hf dJ22_putVal_40 (fun v6 hf => ?_)
  refine sj_dup dJ22_putVal_41 (sd_cat1 _) ?_
  refine sj_astoreQ [(7, va_rf v6), (9, .int x5), (0, .ref w0), (1, .int w1), (2, .ref w2), (3, .ref w3), (4, .int w4), (5, .int w5), (6, .ref w6), (8, .int w8)] dJ22_putVal_42 (by decide) rfl ?_
  refine sj_ifnonnull 63 hf dJ22_putVal_44 (by decide) (fun g44 hf => ?_) (fun p7 g44 hf => ?_)
  · refine sj_aload 8 dJ22_putVal_47 rfl ?_
    refine sj_iload 1 dJ22_putVal_49 rfl ?_
    refine sj_aload_n 2 dJ22_putVal_51 rfl ?_
    refine sj_iload_n 3 dJ22_putVal_52 rfl ?_
    refine sj_aload_n 4 dJ22_putVal_53 rfl ?_
    refine sj_aload_n 5 dJ22_putVal_54 rfl ?_
    refine sj_null dJ22_putVal_55 ?_
    obtain ⟨fs56, he56, hf⟩ := sd_isC_some hf
    refine sj_cR (rest := [.int x5, .ref w6]) (fun _ _ _ e => sj_runV (n := 4) (As := [.int w1, .ref w2, .ref w3, va_rf none]) (rest := [.int x5, .ref w6]) (sJ22_newNode l G w0 w1 w2 w3 none h _ _ _ e) he56 rfl rfl rfl rfl q1740 q1741 q1742 q149 q1743 (by decide +kernel) rfl rfl ⟨Nat.le_of_ble_eq_true rfl, Nat.le_of_ble_eq_true rfl⟩ rfl (Nat.le_of_ble_eq_true rfl) dJ22_putVal_56) hf (fun r8 h c hf => ?_)
    refine sj_aast rfl rfl hf dJ22_putVal_59 (fun h hf => ?_)
    refine sj_goto 259 dJ22_putVal_60 (by decide) ?_
    exact sj_loc [2, 7] rfl (sJ22_putVal_b259 l G a0 a1 a2 a3 a4 a5 ρ h2 cT w0 w5 _ _ hf)
  · subst g44
    refine sj_aload 0 dJ22_putVal_63 rfl ?_
    refine sj_getI fdJ22_168_44 hf dJ22_putVal_65 (fun v13 hf => ?_)
    refine sj_iload_n 3 dJ22_putVal_68 rfl ?_
    refine sj_icne 104 hf dJ22_putVal_69 (by decide) (fun g69 hf => ?_) (fun g69 hf => ?_)
    · refine sj_aload 0 dJ22_putVal_104 rfl ?_
      obtain ⟨fs106, he106, hf⟩ := sd_isC_some hf
      refine sj_instN he106 rfl (by decide) q1301 dJ22_putVal_106 ?_
      refine sj_ifeqT 131 (by decide) dJ22_putVal_109 (by decide) ?_
      refine sj_iconst (v := 0) dJ22_putVal_131 (by decide) ?_
      refine sj_istore [(12, .int 0), (7, .ref p7), (9, .int x5), (0, .ref w0), (1, .int w1), (2, .ref w2), (3, .ref w3), (4, .int w4), (5, .int w5), (6, .ref w6), (8, .int w8)] dJ22_putVal_132 (by decide) rfl ?_
      exact sj_loc [3, 4, 5, 6, 7, 8, 1, 0] rfl (sJ22_putVal_b134_loop l G a0 a1 a2 a3 a4 a5 ρ h2 cT sd_FU (w0, w1, w2, w3, w4, w5, p7, 0) _ _ hf)
    · refine sj_aload 0 dJ22_putVal_72 rfl ?_
      refine sj_getR fdJ22_170_44 hf dJ22_putVal_74 (fun v24 hf => ?_)
      refine sj_dup dJ22_putVal_77 rfl ?_
      refine sj_astore [(11, .ref v24), (7, .ref p7), (9, .int x5), (0, .ref w0), (1, .int w1), (2, .ref w2), (3, .ref w3), (4, .int w4), (5, .int w5), (6, .ref w6), (8, .int w8)] dJ22_putVal_78 (by decide) rfl ?_
      refine sj_aload_n 5 dJ22_putVal_80 rfl ?_
      refine sj_aceqR 97 hf dJ22_putVal_81 (by decide) (fun g81 hf => ?_) (fun g81 hf => ?_)
      · exact sj_loc [3, 6, 7, 8, 1] rfl (sJ22_putVal_b97 l G a0 a1 a2 a3 a4 a5 ρ h2 cT w0 w3 w4 w5 p7 _ _ hf)
      · refine sj_aload_n 5 dJ22_putVal_84 rfl ?_
        refine sj_ifnullR dJ22_putVal_85 ?_
        refine sj_aload_n 5 dJ22_putVal_88 rfl ?_
        refine sj_aload 0 dJ22_putVal_89 rfl ?_
        obtain ⟨fs91, he91, hf⟩ := sd_isC_some hf
        refine sj_cI (rest := []) (fun _ _ _ e => sj_runU (n := 1) (owner := "java/lang/Object") (As := [.ref v24]) (rest := []) (sJ14_equals l G w2 v24 h _ _ _ e) he91 rfl rfl rfl q1238 q1240 q1296 q852 q141 q854 (Or.inr (Or.inl q1237)) (by decide +kernel) rfl rfl (fun _ z => by cases z) ⟨Nat.le_of_ble_eq_true rfl, Nat.le_of_ble_eq_true rfl⟩ rfl (Nat.le_of_ble_eq_true rfl) dJ22_putVal_91) hf (fun r25 h c hf => ?_)
        refine sj_ifeq 104 hf dJ22_putVal_94 (by decide) (fun g94 hf => ?_) (fun g94 hf => ?_)
        · refine sj_aload 1 dJ22_putVal_104 rfl ?_
          obtain ⟨fs106, he106, hf⟩ := sd_isC_some hf
          refine sj_instN he106 rfl (by decide) q1301 dJ22_putVal_106 ?_
          refine sj_ifeqT 131 (by decide) dJ22_putVal_109 (by decide) ?_
          refine sj_iconst (v := 0) dJ22_putVal_131 (by decide) ?_
          refine sj_istore [(12, .int 0), (11, .ref v24), (7, .ref p7), (9, .int x5), (0, .ref w0), (1, .int w1), (2, .ref w2), (3, .ref w3), (4, .int w4), (5, .int w5), (6, .ref w6), (8, .int w8)] dJ22_putVal_132 (by decide) rfl ?_
          exact sj_loc [4, 5, 6, 7, 8, 9, 2, 0] rfl (sJ22_putVal_b134_loop l G a0 a1 a2 a3 a4 a5 ρ h2 cT sd_FU (w0, w1, w2, w3, w4, w5, p7, 0) _ _ hf)
        · exact sj_loc [3, 6, 7, 8, 1] rfl (sJ22_putVal_b97 l G a0 a1 a2 a3 a4 a5 ρ h2 cT w0 w3 w4 w5 p7 _ _ hf)
def fJ22_putVal_b19 (G : sd_G) (w0 : Nat) (w1 : Int32) (w2 : Nat) (w3 : Nat) (w4 : Int32) (w5 : Int32) : sd_M (Option Nat) :=
  sd_bnd (sd_isC G 43 w0) fun _ =>
  sd_bnd (fJ22_resize G w0) fun r3 =>
  sd_bnd (sd_alen G r3) fun v4 =>
  fJ22_putVal_b29 G w0 w1 w2 w3 w4 w5 r3 v4
set_option maxHeartbeats 4000000 in
theorem sJ22_putVal_b19 (l : Launch) (G : sd_G) (a0 : Nat) (a1 : Int32) (a2 : Nat) (a3 : Nat) (a4 : Int32) (a5 : Int32) (ρ : Option Nat) (h2 : sd_H) (cT : Nat × Nat) (w0 : Nat) (w1 : Int32) (w2 : Nat) (w3 : Nat) (w4 : Int32) (w5 : Int32) (h : sd_H) (c : Nat × Nat) (hf : fJ22_putVal_b19 G w0 w1 w2 w3 w4 w5 h = some (ρ, c, h2)) : sd_J mJ22_putVal ((l, G), (3, 60), [.ref a0, .int a1, .ref a2, .ref a3, .int a4, .int a5], (sd_oQ ρ, h2), cT) 19 [(0, .ref w0), (1, .int w1), (2, .ref w2), (3, .ref w3), (4, .int w4), (5, .int w5)] [] h c := by
  unfold fJ22_putVal_b19 at hf
  refine sj_aload_n 0 dJ22_putVal_19 rfl ?_
  obtain ⟨fs20, he20, hf⟩ := sd_isC_some hf
  refine sj_cR (rest := []) (fun _ _ _ e => sj_runV (n := 0) (As := []) (rest := []) (sJ22_resize l G w0 h _ _ _ e) he20 rfl rfl rfl rfl q1670 q1671 q1672 q149 q1673 (by decide +kernel) rfl rfl ⟨Nat.le_of_ble_eq_true rfl, Nat.le_of_ble_eq_true rfl⟩ rfl (Nat.le_of_ble_eq_true rfl) dJ22_putVal_20) hf (fun r3 h c hf => ?_)
  refine sj_dup dJ22_putVal_23 rfl ?_
  refine sj_astore [(6, .ref r3), (0, .ref w0), (1, .int w1), (2, .ref w2), (3, .ref w3), (4, .int w4), (5, .int w5)] dJ22_putVal_24 (by decide) rfl ?_
  refine sj_alen hf dJ22_putVal_26 (fun v4 hf => ?_)
  refine sj_istore [(8, .int v4), (6, .ref r3), (0, .ref w0), (1, .int w1), (2, .ref w2), (3, .ref w3), (4, .int w4), (5, .int w5)] dJ22_putVal_27 (by decide) rfl ?_
  exact sj_loc [2, 3, 4, 5, 6, 7, 1, 0] rfl (sJ22_putVal_b29 l G a0 a1 a2 a3 a4 a5 ρ h2 cT w0 w1 w2 w3 w4 w5 r3 v4 _ _ hf)
def fJ22_putVal (G : sd_G) (a0 : Nat) (a1 : Int32) (a2 : Nat) (a3 : Nat) (a4 : Int32) (a5 : Int32) : sd_M (Option Nat) :=
  sd_bnd (sd_getQ G 43 2 a0) fun v1 =>
  match v1 with
  | none =>
    fJ22_putVal_b19 G a0 a1 a2 a3 a4 a5
  | some p2 =>
    sd_bnd (sd_alen G p2) fun v26 =>
    if v26 = 0 then (
      fJ22_putVal_b19 G a0 a1 a2 a3 a4 a5)
    else (
      fJ22_putVal_b29 G a0 a1 a2 a3 a4 a5 p2 v26)
set_option maxHeartbeats 4000000 in
theorem sJ22_putVal (l : Launch) (G : sd_G) (a0 : Nat) (a1 : Int32) (a2 : Nat) (a3 : Nat) (a4 : Int32) (a5 : Int32) (h : sd_H) (ρ : Option Nat) (cT : Nat × Nat) (h2 : sd_H) (hf : fJ22_putVal G a0 a1 a2 a3 a4 a5 h = some (ρ, cT, h2)) : sd_Met mJ22_putVal ((l, G), (3, 60), [.ref a0, .int a1, .ref a2, .ref a3, .int a4, .int a5], (sd_oQ ρ, h2), cT) h := by
  refine sd_entry (plainFor_of_name rfl) rfl (Nat.le_of_ble_eq_true rfl) ?_
  show sd_J mJ22_putVal ((l, G), (3, 60), [.ref a0, .int a1, .ref a2, .ref a3, .int a4, .int a5], (sd_oQ ρ, h2), cT) 0 [(0, .ref a0), (1, .int a1), (2, .ref a2), (3, .ref a3), (4, .int a4), (5, .int a5)] [] h cT
  unfold fJ22_putVal at hf
  refine sj_aload_n 0 dJ22_putVal_0 rfl ?_
  refine sj_getQ fdJ22_105_43 hf dJ22_putVal_1 (fun v1 hf => ?_)
  refine sj_dup dJ22_putVal_4 (sd_cat1 _) ?_
  refine sj_astoreQ [(6, va_rf v1), (0, .ref a0), (1, .int a1), (2, .ref a2), (3, .ref a3), (4, .int a4), (5, .int a5)] dJ22_putVal_5 (by decide) rfl ?_
  refine sj_ifnull 19 hf dJ22_putVal_7 (by decide) (fun g7 hf => ?_) (fun p2 g7 hf => ?_)
  · exact sj_loc [1, 2, 3, 4, 5, 6] rfl (sJ22_putVal_b19 l G a0 a1 a2 a3 a4 a5 ρ h2 cT a0 a1 a2 a3 a4 a5 _ _ hf)
  · subst g7
    refine sj_aload 0 dJ22_putVal_10 rfl ?_
    refine sj_alen hf dJ22_putVal_12 (fun v26 hf => ?_)
    refine sj_dup dJ22_putVal_13 rfl ?_
    refine sj_istore [(8, .int v26), (6, .ref p2), (0, .ref a0), (1, .int a1), (2, .ref a2), (3, .ref a3), (4, .int a4), (5, .int a5)] dJ22_putVal_14 (by decide) rfl ?_
    refine sj_ifne 29 hf dJ22_putVal_16 (by decide) (fun g16 hf => ?_) (fun g16 hf => ?_)
    · exact sj_loc [2, 3, 4, 5, 6, 7, 1, 0] rfl (sJ22_putVal_b29 l G a0 a1 a2 a3 a4 a5 ρ h2 cT a0 a1 a2 a3 a4 a5 p2 v26 _ _ hf)
    · exact sj_loc [2, 3, 4, 5, 6, 7] rfl (sJ22_putVal_b19 l G a0 a1 a2 a3 a4 a5 ρ h2 cT a0 a1 a2 a3 a4 a5 _ _ hf)
/-! java/util/HashMap.put(Ljava/lang/Object;Ljava/lang/Object;)Ljava/lang/Object; -/
abbrev cJ22_put : ByteArray := prog_84_method_15_code
def yJ22_put : MethodName := ⟨RJ22, "put", "(Ljava/lang/Object;Ljava/lang/Object;)Ljava/lang/Object;"⟩
def dkwJ22_put_0 : List UInt8 := [42, 43, 184, 0, 149, 43, 44, 3, 4, 182, 0, 152, 176]
abbrev dktJ22_put_0 : List UInt8 := dkwJ22_put_0 ++ []
theorem dksJ22_put_0 : cJ22_put.data.toList.drop 0 = dktJ22_put_0 := by decide +kernel
theorem dJ22_put_0 : decode cJ22_put 0 = .ok (.aload_n 0, 1) := dk_42 (dk_at dksJ22_put_0 0 rfl rfl)
theorem dJ22_put_1 : decode cJ22_put 1 = .ok (.aload_n 1, 1) := dk_43 (dk_at dksJ22_put_0 1 rfl rfl)
theorem dJ22_put_2 : decode cJ22_put 2 = .ok (.invokestatic 149, 3) := dk_184 0 149 (dk_at dksJ22_put_0 2 rfl rfl)
theorem dJ22_put_5 : decode cJ22_put 5 = .ok (.aload_n 1, 1) := dk_43 (dk_at dksJ22_put_0 5 rfl rfl)
theorem dJ22_put_6 : decode cJ22_put 6 = .ok (.aload_n 2, 1) := dk_44 (dk_at dksJ22_put_0 6 rfl rfl)
theorem dJ22_put_7 : decode cJ22_put 7 = .ok (.iconst 0, 1) := dk_3 (dk_at dksJ22_put_0 7 rfl rfl)
theorem dJ22_put_8 : decode cJ22_put 8 = .ok (.iconst 1, 1) := dk_4 (dk_at dksJ22_put_0 8 rfl rfl)
theorem dJ22_put_9 : decode cJ22_put 9 = .ok (.invokevirtual 152, 3) := dk_182 0 152 (dk_at dksJ22_put_0 9 rfl rfl)
theorem dJ22_put_12 : decode cJ22_put 12 = .ok (.areturn, 1) := dk_176 (dk_at dksJ22_put_0 12 rfl rfl)
abbrev mJ22_put : sd_Y := (yJ22_put, cJ22_put, 3, some (.object "java/lang/Object"), none)
def fJ22_put (G : sd_G) (a0 : Nat) (a1 : Nat) (a2 : Nat) : sd_M (Option Nat) :=
  sd_bnd (fJ22_hash G a1) fun r1 =>
  sd_bnd (sd_isC G 43 a0) fun _ =>
  sd_bnd (fJ22_putVal G a0 r1 a1 a2 0 1) fun r2 =>
  sd_ret r2
set_option maxHeartbeats 4000000 in
theorem sJ22_put (l : Launch) (G : sd_G) (a0 : Nat) (a1 : Nat) (a2 : Nat) (h : sd_H) (ρ : Option Nat) (cT : Nat × Nat) (h2 : sd_H) (hf : fJ22_put G a0 a1 a2 h = some (ρ, cT, h2)) : sd_Met mJ22_put ((l, G), (5, 111), [.ref a0, .ref a1, .ref a2], (sd_oQ ρ, h2), cT) h := by
  refine sd_entry (plainFor_of_name rfl) rfl (Nat.le_of_ble_eq_true rfl) ?_
  show sd_J mJ22_put ((l, G), (5, 111), [.ref a0, .ref a1, .ref a2], (sd_oQ ρ, h2), cT) 0 [(0, .ref a0), (1, .ref a1), (2, .ref a2)] [] h cT
  unfold fJ22_put at hf
  refine sj_aload_n 0 dJ22_put_0 rfl ?_
  refine sj_aload_n 1 dJ22_put_1 rfl ?_
  refine sj_cI (rest := [.ref a0]) (fun _ _ _ e => sj_runS (n := 1) (rest := [.ref a0]) (sJ22_hash l G a1 h _ _ _ e) rfl rfl q1114 q1115 q149 q1116 (by decide +kernel) rfl ⟨Nat.le_of_ble_eq_true rfl, Nat.le_of_ble_eq_true rfl⟩ rfl (Nat.le_of_ble_eq_true rfl) dJ22_put_2) hf (fun r1 h c hf => ?_)
  refine sj_aload_n 1 dJ22_put_5 rfl ?_
  refine sj_aload_n 2 dJ22_put_6 rfl ?_
  refine sj_iconst (v := 0) dJ22_put_7 (by decide) ?_
  refine sj_iconst (v := 1) dJ22_put_8 (by decide) ?_
  obtain ⟨fs9, he9, hf⟩ := sd_isC_some hf
  refine sj_cQ (rest := []) (fun _ _ _ e => sj_runV (n := 5) (As := [.int r1, .ref a1, .ref a2, .int 0, .int 1]) (rest := []) (sJ22_putVal l G a0 r1 a1 a2 0 1 h _ _ _ e) he9 rfl rfl rfl rfl q1666 q1667 q1668 q149 q1669 (by decide +kernel) rfl rfl ⟨Nat.le_of_ble_eq_true rfl, Nat.le_of_ble_eq_true rfl⟩ rfl (Nat.le_of_ble_eq_true rfl) dJ22_put_9) hf (fun r2 h c hf => ?_)
  exact sj_aretQ (o := sd_oQ) (x := r2) hf rfl rfl rfl (Or.inl ⟨_, rfl⟩) dJ22_put_12
