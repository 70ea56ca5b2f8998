set_option maxRecDepth 100000
theorem q139 : (Jvm.Cond.initialized "java/lang/AbstractStringBuilder") ∈ lw_all := lw_g (lw_at lw_m1 24 rfl) rfl
theorem q140 : (Jvm.Cond.initialized "java/lang/StringBuilder") ∈ lw_all := lw_g (lw_at lw_m1 25 rfl) rfl
theorem q205 : (Jvm.Cond.arrayClass Jvm.ClassFile.FieldType.byte) ∈ lw_all := lw_g (lw_at lw_m1 90 rfl) rfl
theorem q531 : (Jvm.Cond.code ({ cls := "java/lang/StringBuilder", name := "<init>", desc := "()V" } : Jvm.MethodName) prog_69_method_1_code (1 : Nat) (Option.none : Option Jvm.ClassFile.FieldType)) ∈ lw_all := lw_g (lw_at lw_m2 176 rfl) rfl
theorem q532 : (Jvm.Cond.methodLink "java/lang/StringBuilder" (1 : Nat) ({ cls := "java/lang/AbstractStringBuilder", name := "<init>", desc := "(I)V" } : Jvm.MethodName)) ∈ lw_all := lw_g (lw_at lw_m2 177 rfl) rfl
theorem q533 : (Jvm.Cond.instanceMethod ({ cls := "java/lang/AbstractStringBuilder", name := "<init>", desc := "(I)V" } : Jvm.MethodName)) ∈ lw_all := lw_g (lw_at lw_m2 178 rfl) rfl
theorem q534 : (Jvm.Cond.code ({ cls := "java/lang/AbstractStringBuilder", name := "<init>", desc := "(I)V" } : Jvm.MethodName) prog_49_method_2_code (2 : Nat) (Option.none : Option Jvm.ClassFile.FieldType)) ∈ lw_all := lw_g (lw_at lw_m2 179 rfl) rfl
theorem q535 : (Jvm.Cond.methodLink "java/lang/AbstractStringBuilder" (3 : Nat) ({ cls := "java/lang/Object", name := "<init>", desc := "()V" } : Jvm.MethodName)) ∈ lw_all := lw_g (lw_at lw_m2 180 rfl) rfl
theorem q536 : (Jvm.Cond.fieldLink "java/lang/AbstractStringBuilder" (18 : Nat) "java/lang/String" "COMPACT_STRINGS" "Z") ∈ lw_all := lw_g (lw_at lw_m2 181 rfl) rfl
theorem q545 : (Jvm.Cond.fieldLink "java/lang/AbstractStringBuilder" (15 : Nat) "java/lang/AbstractStringBuilder" "value" "[B") ∈ lw_all := lw_g (lw_at lw_m2 190 rfl) rfl
theorem q546 : (Jvm.Cond.fieldLink "java/lang/AbstractStringBuilder" (22 : Nat) "java/lang/AbstractStringBuilder" "coder" "B") ∈ lw_all := lw_g (lw_at lw_m2 191 rfl) rfl
theorem q548 : (Jvm.Cond.fieldLink "java/lang/AbstractStringBuilder" (79 : Nat) "java/lang/AbstractStringBuilder" "count" "I") ∈ lw_all := lw_g (lw_at lw_m2 193 rfl) rfl
theorem q557 : (Jvm.Cond.superclass "java/lang/StringBuilder" "java/lang/AbstractStringBuilder") ∈ lw_all := lw_g (lw_at lw_m2 202 rfl) rfl
theorem q562 : (Jvm.Cond.code ({ cls := "java/lang/StringBuilder", name := "append", desc := "(C)Ljava/lang/StringBuilder;" } : Jvm.MethodName) prog_69_method_14_code (2 : Nat) (Option.some (Jvm.ClassFile.FieldType.object "java/lang/StringBuilder"))) ∈ lw_all := lw_g (lw_at lw_m2 207 rfl) rfl
theorem q563 : (Jvm.Cond.methodLink "java/lang/StringBuilder" (50 : Nat) ({ cls := "java/lang/AbstractStringBuilder", name := "append", desc := "(C)Ljava/lang/AbstractStringBuilder;" } : Jvm.MethodName)) ∈ lw_all := lw_g (lw_at lw_m2 208 rfl) rfl
theorem q564 : (Jvm.Cond.instanceMethod ({ cls := "java/lang/AbstractStringBuilder", name := "append", desc := "(C)Ljava/lang/AbstractStringBuilder;" } : Jvm.MethodName)) ∈ lw_all := lw_g (lw_at lw_m2 209 rfl) rfl
theorem q565 : (Jvm.Cond.code ({ cls := "java/lang/AbstractStringBuilder", name := "append", desc := "(C)Ljava/lang/AbstractStringBuilder;" } : Jvm.MethodName) prog_49_method_31_code (2 : Nat) (Option.some (Jvm.ClassFile.FieldType.object "java/lang/AbstractStringBuilder"))) ∈ lw_all := lw_g (lw_at lw_m2 210 rfl) rfl
theorem q566 : (Jvm.Cond.methodLink "java/lang/AbstractStringBuilder" (100 : Nat) ({ cls := "java/lang/AbstractStringBuilder", name := "ensureCapacityInternal", desc := "(I)V" } : Jvm.MethodName)) ∈ lw_all := lw_g (lw_at lw_m2 211 rfl) rfl
theorem q567 : (Jvm.Cond.privateMethod ({ cls := "java/lang/AbstractStringBuilder", name := "ensureCapacityInternal", desc := "(I)V" } : Jvm.MethodName)) ∈ lw_tbl := lw_at lw_m2 212 rfl
theorem q568 : (Jvm.Cond.instanceMethod ({ cls := "java/lang/AbstractStringBuilder", name := "ensureCapacityInternal", desc := "(I)V" } : Jvm.MethodName)) ∈ lw_all := lw_g (lw_at lw_m2 213 rfl) rfl
theorem q569 : (Jvm.Cond.code ({ cls := "java/lang/AbstractStringBuilder", name := "ensureCapacityInternal", desc := "(I)V" } : Jvm.MethodName) prog_49_method_9_code (3 : Nat) (Option.none : Option Jvm.ClassFile.FieldType)) ∈ lw_all := lw_g (lw_at lw_m2 214 rfl) rfl
theorem q570 : (Jvm.Cond.methodLink "java/lang/AbstractStringBuilder" (104 : Nat) ({ cls := "java/lang/AbstractStringBuilder", name := "newCapacity", desc := "(I)I" } : Jvm.MethodName)) ∈ lw_all := lw_g (lw_at lw_m2 215 rfl) rfl
theorem q571 : (Jvm.Cond.privateMethod ({ cls := "java/lang/AbstractStringBuilder", name := "newCapacity", desc := "(I)I" } : Jvm.MethodName)) ∈ lw_tbl := lw_at lw_m2 216 rfl
theorem q572 : (Jvm.Cond.instanceMethod ({ cls := "java/lang/AbstractStringBuilder", name := "newCapacity", desc := "(I)I" } : Jvm.MethodName)) ∈ lw_all := lw_g (lw_at lw_m2 217 rfl) rfl
theorem q573 : (Jvm.Cond.code ({ cls := "java/lang/AbstractStringBuilder", name := "newCapacity", desc := "(I)I" } : Jvm.MethodName) prog_49_method_10_code (6 : Nat) (Option.some Jvm.ClassFile.FieldType.int)) ∈ lw_all := lw_g (lw_at lw_m2 218 rfl) rfl
theorem q574 : (Jvm.Cond.methodLink "java/lang/AbstractStringBuilder" (114 : Nat) ({ cls := "jdk/internal/util/ArraysSupport", name := "newLength", desc := "(III)I" } : Jvm.MethodName)) ∈ lw_all := lw_g (lw_at lw_m2 219 rfl) rfl
theorem q575 : (Jvm.Cond.constant "java/lang/AbstractStringBuilder" (39 : Nat) (2147483647 : Int32)) ∈ lw_all := lw_g (lw_at lw_m2 220 rfl) rfl
theorem q576 : (Jvm.Cond.methodLink "java/lang/AbstractStringBuilder" (108 : Nat) ({ cls := "java/util/Arrays", name := "copyOf", desc := "([BI)[B" } : Jvm.MethodName)) ∈ lw_all := lw_g (lw_at lw_m2 221 rfl) rfl
theorem q577 : (Jvm.Cond.static ({ cls := "java/util/Arrays", name := "copyOf", desc := "([BI)[B" } : Jvm.MethodName)) ∈ lw_all := lw_g (lw_at lw_m2 222 rfl) rfl
theorem q578 : (Jvm.Cond.code ({ cls := "java/util/Arrays", name := "copyOf", desc := "([BI)[B" } : Jvm.MethodName) prog_82_method_121_code (3 : Nat) (Option.some (Jvm.ClassFile.FieldType.array Jvm.ClassFile.FieldType.byte))) ∈ lw_all := lw_g (lw_at lw_m2 223 rfl) rfl
theorem q579 : (Jvm.Cond.methodLink "java/util/Arrays" (310 : Nat) ({ cls := "[B", name := "clone", desc := "()Ljava/lang/Object;" } : Jvm.MethodName)) ∈ lw_all := lw_g (lw_at lw_m2 224 rfl) rfl
theorem q580 : (Jvm.Cond.sameMethod "[B" "java/lang/Object" "clone" "()Ljava/lang/Object;") ∈ lw_all := lw_g (lw_at lw_m2 225 rfl) rfl
theorem q581 : (Jvm.Cond.native ({ cls := "java/lang/Object", name := "clone", desc := "()Ljava/lang/Object;" } : Jvm.MethodName)) ∈ lw_all := lw_g (lw_at lw_m2 226 rfl) rfl
theorem q582 : (Jvm.Cond.instanceMethod ({ cls := "java/lang/Object", name := "clone", desc := "()Ljava/lang/Object;" } : Jvm.MethodName)) ∈ lw_all := lw_g (lw_at lw_m2 227 rfl) rfl
theorem q583 : (Jvm.Cond.selects "[B" ({ cls := "[B", name := "clone", desc := "()Ljava/lang/Object;" } : Jvm.MethodName) ({ cls := "java/lang/Object", name := "clone", desc := "()Ljava/lang/Object;" } : Jvm.MethodName)) ∈ lw_all := lw_g (lw_at lw_m2 228 rfl) rfl
theorem q584 : (Jvm.Cond.castable "[B" "java/lang/Cloneable") ∈ lw_tbl := lw_at lw_m2 229 rfl
theorem q585 : (Jvm.Cond.classLink "java/util/Arrays" (311 : Nat) "[B") ∈ lw_all := lw_g (lw_at lw_m2 230 rfl) rfl
theorem q586 : (Jvm.Cond.methodLink "java/lang/AbstractStringBuilder" (83 : Nat) ({ cls := "java/lang/AbstractStringBuilder", name := "isLatin1", desc := "()Z" } : Jvm.MethodName)) ∈ lw_all := lw_g (lw_at lw_m2 231 rfl) rfl
theorem q587 : (Jvm.Cond.instanceMethod ({ cls := "java/lang/AbstractStringBuilder", name := "isLatin1", desc := "()Z" } : Jvm.MethodName)) ∈ lw_all := lw_g (lw_at lw_m2 232 rfl) rfl
theorem q588 : (Jvm.Cond.sameMethod "java/lang/AbstractStringBuilder" "java/lang/AbstractStringBuilder" "isLatin1" "()Z") ∈ lw_all := lw_g (lw_at lw_m2 233 rfl) rfl
theorem q589 : (Jvm.Cond.selects "java/lang/StringBuilder" ({ cls := "java/lang/AbstractStringBuilder", name := "isLatin1", desc := "()Z" } : Jvm.MethodName) ({ cls := "java/lang/AbstractStringBuilder", name := "isLatin1", desc := "()Z" } : Jvm.MethodName)) ∈ lw_all := lw_g (lw_at lw_m2 234 rfl) rfl
theorem q590 : (Jvm.Cond.code ({ cls := "java/lang/AbstractStringBuilder", name := "isLatin1", desc := "()Z" } : Jvm.MethodName) prog_49_method_68_code (1 : Nat) (Option.some Jvm.ClassFile.FieldType.boolean)) ∈ lw_all := lw_g (lw_at lw_m2 235 rfl) rfl
theorem q591 : (Jvm.Cond.methodLink "java/lang/AbstractStringBuilder" (191 : Nat) ({ cls := "java/lang/StringLatin1", name := "canEncode", desc := "(C)Z" } : Jvm.MethodName)) ∈ lw_all := lw_g (lw_at lw_m2 236 rfl) rfl
theorem q592 : (Jvm.Cond.static ({ cls := "java/lang/StringLatin1", name := "canEncode", desc := "(C)Z" } : Jvm.MethodName)) ∈ lw_all := lw_g (lw_at lw_m2 237 rfl) rfl
theorem q593 : (Jvm.Cond.code ({ cls := "java/lang/StringLatin1", name := "canEncode", desc := "(C)Z" } : Jvm.MethodName) prog_70_method_3_code (1 : Nat) (Option.some Jvm.ClassFile.FieldType.boolean)) ∈ lw_all := lw_g (lw_at lw_m2 238 rfl) rfl
theorem q642 : (Jvm.Cond.code ({ cls := "java/lang/StringBuilder", name := "toString", desc := "()Ljava/lang/String;" } : Jvm.MethodName) prog_69_method_42_code (1 : Nat) (Option.some (Jvm.ClassFile.FieldType.object "java/lang/String"))) ∈ lw_all := lw_g (lw_at lw_m3 47 rfl) rfl
theorem q643 : (Jvm.Cond.classLink "java/lang/StringBuilder" (18 : Nat) "java/lang/String") ∈ lw_all := lw_g (lw_at lw_m3 48 rfl) rfl
theorem q644 : (Jvm.Cond.instantiable "java/lang/String" (4 : Nat)) ∈ lw_all := lw_g (lw_at lw_m3 49 rfl) rfl
theorem q645 : (Jvm.Cond.methodLink "java/lang/StringBuilder" (137 : Nat) ({ cls := "java/lang/String", name := "<init>", desc := "(Ljava/lang/StringBuilder;)V" } : Jvm.MethodName)) ∈ lw_all := lw_g (lw_at lw_m3 50 rfl) rfl
theorem q646 : (Jvm.Cond.instanceMethod ({ cls := "java/lang/String", name := "<init>", desc := "(Ljava/lang/StringBuilder;)V" } : Jvm.MethodName)) ∈ lw_all := lw_g (lw_at lw_m3 51 rfl) rfl
theorem q647 : (Jvm.Cond.code ({ cls := "java/lang/String", name := "<init>", desc := "(Ljava/lang/StringBuilder;)V" } : Jvm.MethodName) prog_68_method_53_code (2 : Nat) (Option.none : Option Jvm.ClassFile.FieldType)) ∈ lw_all := lw_g (lw_at lw_m3 52 rfl) rfl
theorem q648 : (Jvm.Cond.methodLink "java/lang/String" (489 : Nat) ({ cls := "java/lang/String", name := "<init>", desc := "(Ljava/lang/AbstractStringBuilder;Ljava/lang/Void;)V" } : Jvm.MethodName)) ∈ lw_all := lw_g (lw_at lw_m3 53 rfl) rfl
theorem q649 : (Jvm.Cond.instanceMethod ({ cls := "java/lang/String", name := "<init>", desc := "(Ljava/lang/AbstractStringBuilder;Ljava/lang/Void;)V" } : Jvm.MethodName)) ∈ lw_all := lw_g (lw_at lw_m3 54 rfl) rfl
theorem q650 : (Jvm.Cond.code ({ cls := "java/lang/String", name := "<init>", desc := "(Ljava/lang/AbstractStringBuilder;Ljava/lang/Void;)V" } : Jvm.MethodName) prog_68_method_150_code (5 : Nat) (Option.none : Option Jvm.ClassFile.FieldType)) ∈ lw_all := lw_g (lw_at lw_m3 55 rfl) rfl
theorem q651 : (Jvm.Cond.methodLink "java/lang/String" (1 : Nat) ({ cls := "java/lang/Object", name := "<init>", desc := "()V" } : Jvm.MethodName)) ∈ lw_all := lw_g (lw_at lw_m3 56 rfl) rfl
theorem q652 : (Jvm.Cond.methodLink "java/lang/String" (552 : Nat) ({ cls := "java/lang/AbstractStringBuilder", name := "getValue", desc := "()[B" } : Jvm.MethodName)) ∈ lw_all := lw_g (lw_at lw_m3 57 rfl) rfl
theorem q653 : (Jvm.Cond.instanceMethod ({ cls := "java/lang/AbstractStringBuilder", name := "getValue", desc := "()[B" } : Jvm.MethodName)) ∈ lw_all := lw_g (lw_at lw_m3 58 rfl) rfl
theorem q654 : (Jvm.Cond.sameMethod "java/lang/AbstractStringBuilder" "java/lang/AbstractStringBuilder" "getValue" "()[B") ∈ lw_all := lw_g (lw_at lw_m3 59 rfl) rfl
theorem q655 : (Jvm.Cond.selects "java/lang/StringBuilder" ({ cls := "java/lang/AbstractStringBuilder", name := "getValue", desc := "()[B" } : Jvm.MethodName) ({ cls := "java/lang/AbstractStringBuilder", name := "getValue", desc := "()[B" } : Jvm.MethodName)) ∈ lw_all := lw_g (lw_at lw_m3 60 rfl) rfl
theorem q656 : (Jvm.Cond.code ({ cls := "java/lang/AbstractStringBuilder", name := "getValue", desc := "()[B" } : Jvm.MethodName) prog_49_method_64_code (1 : Nat) (Option.some (Jvm.ClassFile.FieldType.array Jvm.ClassFile.FieldType.byte))) ∈ lw_all := lw_g (lw_at lw_m3 61 rfl) rfl
theorem q657 : (Jvm.Cond.methodLink "java/lang/String" (549 : Nat) ({ cls := "java/lang/AbstractStringBuilder", name := "length", desc := "()I" } : Jvm.MethodName)) ∈ lw_all := lw_g (lw_at lw_m3 62 rfl) rfl
theorem q658 : (Jvm.Cond.instanceMethod ({ cls := "java/lang/AbstractStringBuilder", name := "length", desc := "()I" } : Jvm.MethodName)) ∈ lw_all := lw_g (lw_at lw_m3 63 rfl) rfl
theorem q659 : (Jvm.Cond.sameMethod "java/lang/AbstractStringBuilder" "java/lang/AbstractStringBuilder" "length" "()I") ∈ lw_all := lw_g (lw_at lw_m3 64 rfl) rfl
theorem q660 : (Jvm.Cond.selects "java/lang/StringBuilder" ({ cls := "java/lang/AbstractStringBuilder", name := "length", desc := "()I" } : Jvm.MethodName) ({ cls := "java/lang/StringBuilder", name := "length", desc := "()I" } : Jvm.MethodName)) ∈ lw_all := lw_g (lw_at lw_m3 65 rfl) rfl
theorem q661 : (Jvm.Cond.instanceMethod ({ cls := "java/lang/StringBuilder", name := "length", desc := "()I" } : Jvm.MethodName)) ∈ lw_all := lw_g (lw_at lw_m3 66 rfl) rfl
theorem q662 : (Jvm.Cond.code ({ cls := "java/lang/StringBuilder", name := "length", desc := "()I" } : Jvm.MethodName) prog_69_method_93_code (1 : Nat) (Option.some Jvm.ClassFile.FieldType.int)) ∈ lw_all := lw_g (lw_at lw_m3 67 rfl) rfl
theorem q663 : (Jvm.Cond.methodLink "java/lang/StringBuilder" (343 : Nat) ({ cls := "java/lang/AbstractStringBuilder", name := "length", desc := "()I" } : Jvm.MethodName)) ∈ lw_all := lw_g (lw_at lw_m3 68 rfl) rfl
theorem q664 : (Jvm.Cond.code ({ cls := "java/lang/AbstractStringBuilder", name := "length", desc := "()I" } : Jvm.MethodName) prog_49_method_6_code (1 : Nat) (Option.some Jvm.ClassFile.FieldType.int)) ∈ lw_all := lw_g (lw_at lw_m3 69 rfl) rfl
theorem q665 : (Jvm.Cond.methodLink "java/lang/String" (1047 : Nat) ({ cls := "java/lang/AbstractStringBuilder", name := "isLatin1", desc := "()Z" } : Jvm.MethodName)) ∈ lw_all := lw_g (lw_at lw_m3 70 rfl) rfl
theorem q666 : (Jvm.Cond.methodLink "java/lang/String" (54 : Nat) ({ cls := "java/util/Arrays", name := "copyOfRange", desc := "([BII)[B" } : Jvm.MethodName)) ∈ lw_all := lw_g (lw_at lw_m3 71 rfl) rfl
theorem q667 : (Jvm.Cond.static ({ cls := "java/util/Arrays", name := "copyOfRange", desc := "([BII)[B" } : Jvm.MethodName)) ∈ lw_all := lw_g (lw_at lw_m3 72 rfl) rfl
theorem q668 : (Jvm.Cond.code ({ cls := "java/util/Arrays", name := "copyOfRange", desc := "([BII)[B" } : Jvm.MethodName) prog_82_method_132_code (3 : Nat) (Option.some (Jvm.ClassFile.FieldType.array Jvm.ClassFile.FieldType.byte))) ∈ lw_all := lw_g (lw_at lw_m3 73 rfl) rfl
theorem q669 : (Jvm.Cond.methodLink "java/util/Arrays" (339 : Nat) ({ cls := "java/util/Arrays", name := "copyOfRangeByte", desc := "([BII)[B" } : Jvm.MethodName)) ∈ lw_all := lw_g (lw_at lw_m3 74 rfl) rfl
theorem q670 : (Jvm.Cond.static ({ cls := "java/util/Arrays", name := "copyOfRangeByte", desc := "([BII)[B" } : Jvm.MethodName)) ∈ lw_all := lw_g (lw_at lw_m3 75 rfl) rfl
theorem q671 : (Jvm.Cond.code ({ cls := "java/util/Arrays", name := "copyOfRangeByte", desc := "([BII)[B" } : Jvm.MethodName) prog_82_method_133_code (5 : Nat) (Option.some (Jvm.ClassFile.FieldType.array Jvm.ClassFile.FieldType.byte))) ∈ lw_all := lw_g (lw_at lw_m3 76 rfl) rfl
theorem q672 : (Jvm.Cond.methodLink "java/util/Arrays" (343 : Nat) ({ cls := "java/util/Arrays", name := "checkLength", desc := "(II)V" } : Jvm.MethodName)) ∈ lw_all := lw_g (lw_at lw_m3 77 rfl) rfl
theorem q673 : (Jvm.Cond.static ({ cls := "java/util/Arrays", name := "checkLength", desc := "(II)V" } : Jvm.MethodName)) ∈ lw_all := lw_g (lw_at lw_m3 78 rfl) rfl
theorem q674 : (Jvm.Cond.code ({ cls := "java/util/Arrays", name := "checkLength", desc := "(II)V" } : Jvm.MethodName) prog_82_method_131_code (2 : Nat) (Option.none : Option Jvm.ClassFile.FieldType)) ∈ lw_all := lw_g (lw_at lw_m3 79 rfl) rfl
theorem q854 : (Jvm.Cond.code ({ cls := "java/lang/String", name := "equals", desc := "(Ljava/lang/Object;)Z" } : Jvm.MethodName) prog_68_method_66_code (3 : Nat) (Option.some Jvm.ClassFile.FieldType.boolean)) ∈ lw_all := lw_g (lw_at lw_m4 19 rfl) rfl
theorem q855 : (Jvm.Cond.classLink "java/lang/String" (10 : Nat) "java/lang/String") ∈ lw_all := lw_g (lw_at lw_m4 20 rfl) rfl
theorem q856 : (Jvm.Cond.methodLink "java/lang/String" (541 : Nat) ({ cls := "java/lang/StringLatin1", name := "equals", desc := "([B[B)Z" } : Jvm.MethodName)) ∈ lw_all := lw_g (lw_at lw_m4 21 rfl) rfl
theorem q857 : (Jvm.Cond.static ({ cls := "java/lang/StringLatin1", name := "equals", desc := "([B[B)Z" } : Jvm.MethodName)) ∈ lw_all := lw_g (lw_at lw_m4 22 rfl) rfl
theorem q858 : (Jvm.Cond.code ({ cls := "java/lang/StringLatin1", name := "equals", desc := "([B[B)Z" } : Jvm.MethodName) prog_70_method_13_code (3 : Nat) (Option.some Jvm.ClassFile.FieldType.boolean)) ∈ lw_all := lw_g (lw_at lw_m4 23 rfl) rfl
theorem q869 : (Jvm.Cond.code ({ cls := "java/lang/String", name := "indexOf", desc := "(I)I" } : Jvm.MethodName) prog_68_method_79_code (2 : Nat) (Option.some Jvm.ClassFile.FieldType.int)) ∈ lw_all := lw_g (lw_at lw_m4 34 rfl) rfl
theorem q870 : (Jvm.Cond.methodLink "java/lang/String" (633 : Nat) ({ cls := "java/lang/String", name := "indexOf", desc := "(II)I" } : Jvm.MethodName)) ∈ lw_all := lw_g (lw_at lw_m4 35 rfl) rfl
theorem q871 : (Jvm.Cond.instanceMethod ({ cls := "java/lang/String", name := "indexOf", desc := "(II)I" } : Jvm.MethodName)) ∈ lw_all := lw_g (lw_at lw_m4 36 rfl) rfl
theorem q872 : (Jvm.Cond.selects "java/lang/String" ({ cls := "java/lang/String", name := "indexOf", desc := "(II)I" } : Jvm.MethodName) ({ cls := "java/lang/String", name := "indexOf", desc := "(II)I" } : Jvm.MethodName)) ∈ lw_all := lw_g (lw_at lw_m4 37 rfl) rfl
theorem q873 : (Jvm.Cond.code ({ cls := "java/lang/String", name := "indexOf", desc := "(II)I" } : Jvm.MethodName) prog_68_method_80_code (3 : Nat) (Option.some Jvm.ClassFile.FieldType.int)) ∈ lw_all := lw_g (lw_at lw_m4 38 rfl) rfl
theorem q878 : (Jvm.Cond.methodLink "java/lang/String" (505 : Nat) ({ cls := "java/lang/String", name := "length", desc := "()I" } : Jvm.MethodName)) ∈ lw_all := lw_g (lw_at lw_m4 43 rfl) rfl
theorem q879 : (Jvm.Cond.methodLink "java/lang/String" (637 : Nat) ({ cls := "java/lang/StringLatin1", name := "indexOf", desc := "([BIII)I" } : Jvm.MethodName)) ∈ lw_all := lw_g (lw_at lw_m4 44 rfl) rfl
theorem q880 : (Jvm.Cond.static ({ cls := "java/lang/StringLatin1", name := "indexOf", desc := "([BIII)I" } : Jvm.MethodName)) ∈ lw_all := lw_g (lw_at lw_m4 45 rfl) rfl
theorem q881 : (Jvm.Cond.code ({ cls := "java/lang/StringLatin1", name := "indexOf", desc := "([BIII)I" } : Jvm.MethodName) prog_70_method_22_code (4 : Nat) (Option.some Jvm.ClassFile.FieldType.int)) ∈ lw_all := lw_g (lw_at lw_m4 46 rfl) rfl
theorem q882 : (Jvm.Cond.methodLink "java/lang/StringLatin1" (88 : Nat) ({ cls := "java/lang/StringLatin1", name := "canEncode", desc := "(I)Z" } : Jvm.MethodName)) ∈ lw_all := lw_g (lw_at lw_m4 47 rfl) rfl
theorem q883 : (Jvm.Cond.static ({ cls := "java/lang/StringLatin1", name := "canEncode", desc := "(I)Z" } : Jvm.MethodName)) ∈ lw_all := lw_g (lw_at lw_m4 48 rfl) rfl
theorem q884 : (Jvm.Cond.code ({ cls := "java/lang/StringLatin1", name := "canEncode", desc := "(I)Z" } : Jvm.MethodName) prog_70_method_4_code (1 : Nat) (Option.some Jvm.ClassFile.FieldType.boolean)) ∈ lw_all := lw_g (lw_at lw_m4 49 rfl) rfl
theorem q885 : (Jvm.Cond.methodLink "java/lang/StringLatin1" (92 : Nat) ({ cls := "java/lang/Math", name := "max", desc := "(II)I" } : Jvm.MethodName)) ∈ lw_all := lw_g (lw_at lw_m4 50 rfl) rfl
theorem q886 : (Jvm.Cond.methodLink "java/lang/StringLatin1" (38 : Nat) ({ cls := "java/lang/Math", name := "min", desc := "(II)I" } : Jvm.MethodName)) ∈ lw_all := lw_g (lw_at lw_m4 51 rfl) rfl
theorem q887 : (Jvm.Cond.methodLink "java/lang/StringLatin1" (95 : Nat) ({ cls := "java/lang/StringLatin1", name := "indexOfChar", desc := "([BIII)I" } : Jvm.MethodName)) ∈ lw_all := lw_g (lw_at lw_m4 52 rfl) rfl
theorem q888 : (Jvm.Cond.static ({ cls := "java/lang/StringLatin1", name := "indexOfChar", desc := "([BIII)I" } : Jvm.MethodName)) ∈ lw_all := lw_g (lw_at lw_m4 53 rfl) rfl
theorem q889 : (Jvm.Cond.code ({ cls := "java/lang/StringLatin1", name := "indexOfChar", desc := "([BIII)I" } : Jvm.MethodName) prog_70_method_23_code (6 : Nat) (Option.some Jvm.ClassFile.FieldType.int)) ∈ lw_all := lw_g (lw_at lw_m4 54 rfl) rfl
theorem q3414 : (Jvm.Cond.sameMethod "java/lang/AbstractStringBuilder" "java/lang/AbstractStringBuilder" "append" "(C)Ljava/lang/AbstractStringBuilder;") ∈ lw_all := lw_g (lw_at lw_m14 179 rfl) rfl
theorem q3415 : (Jvm.Cond.sameMethod "java/lang/AbstractStringBuilder" "java/lang/AbstractStringBuilder" "ensureCapacityInternal" "(I)V") ∈ lw_all := lw_g (lw_at lw_m14 180 rfl) rfl
theorem q3416 : (Jvm.Cond.sameMethod "java/lang/AbstractStringBuilder" "java/lang/AbstractStringBuilder" "newCapacity" "(I)I") ∈ lw_all := lw_g (lw_at lw_m14 181 rfl) rfl
/-! java/lang/AbstractStringBuilder.<init>(I)V -/
abbrev cJ12_init : ByteArray := prog_49_method_2_code
def yJ12_init : MethodName := ⟨RJ12, "<init>", "(I)V"⟩
def dkwJ12_init_1 : List UInt8 := [167, 0, 16, 42, 27, 184, 0, 26, 181, 0, 15, 42, 4, 181, 0, 22, 177]
abbrev dktJ12_init_1 : List UInt8 := dkwJ12_init_1 ++ []
def dkwJ12_init_0 : List UInt8 := [42, 183, 0, 3, 178, 0, 18, 153, 0, 18, 42, 27, 188, 8, 181, 0, 15, 42, 3, 181, 0, 22]
abbrev dktJ12_init_0 : List UInt8 := dkwJ12_init_0 ++ dktJ12_init_1
theorem dksJ12_init_0 : cJ12_init.data.toList.drop 0 = dktJ12_init_0 := by decide +kernel
theorem dksJ12_init_1 : cJ12_init.data.toList.drop 22 = dktJ12_init_1 := dk_seg dksJ12_init_0 22 rfl rfl
theorem dJ12_init_0 : decode cJ12_init 0 = .ok (.aload_n 0, 1) := dk_42 (dk_at dksJ12_init_0 0 rfl rfl)
theorem dJ12_init_1 : decode cJ12_init 1 = .ok (.invokespecial 3, 3) := dk_183 0 3 (dk_at dksJ12_init_0 1 rfl rfl)
theorem dJ12_init_4 : decode cJ12_init 4 = .ok (.getstatic 18, 3) := dk_178 0 18 (dk_at dksJ12_init_0 4 rfl rfl)
theorem dJ12_init_7 : decode cJ12_init 7 = .ok (.ifCond .eq 18, 3) := dk_153 0 18 (dk_at dksJ12_init_0 7 rfl rfl)
theorem dJ12_init_10 : decode cJ12_init 10 = .ok (.aload_n 0, 1) := dk_42 (dk_at dksJ12_init_0 10 rfl rfl)
theorem dJ12_init_11 : decode cJ12_init 11 = .ok (.iload_n 1, 1) := dk_27 (dk_at dksJ12_init_0 11 rfl rfl)
theorem dJ12_init_12 : decode cJ12_init 12 = .ok (.newarray .byte, 2) := dk_188_8 (dk_at dksJ12_init_0 12 rfl rfl)
theorem dJ12_init_14 : decode cJ12_init 14 = .ok (.putfield 15, 3) := dk_181 0 15 (dk_at dksJ12_init_0 14 rfl rfl)
theorem dJ12_init_17 : decode cJ12_init 17 = .ok (.aload_n 0, 1) := dk_42 (dk_at dksJ12_init_0 17 rfl rfl)
theorem dJ12_init_18 : decode cJ12_init 18 = .ok (.iconst 0, 1) := dk_3 (dk_at dksJ12_init_0 18 rfl rfl)
theorem dJ12_init_19 : decode cJ12_init 19 = .ok (.putfield 22, 3) := dk_181 0 22 (dk_at dksJ12_init_0 19 rfl rfl)
theorem dJ12_init_22 : decode cJ12_init 22 = .ok (.goto 16, 3) := dk_167 0 16 (dk_at dksJ12_init_1 0 rfl rfl)
theorem dJ12_init_25 : decode cJ12_init 25 = .ok (.aload_n 0, 1) := dk_42 (dk_at dksJ12_init_1 3 rfl rfl)
theorem dJ12_init_26 : decode cJ12_init 26 = .ok (.iload_n 1, 1) := dk_27 (dk_at dksJ12_init_1 4 rfl rfl)
theorem dJ12_init_27 : decode cJ12_init 27 = .ok (.invokestatic 26, 3) := dk_184 0 26 (dk_at dksJ12_init_1 5 rfl rfl)
theorem dJ12_init_30 : decode cJ12_init 30 = .ok (.putfield 15, 3) := dk_181 0 15 (dk_at dksJ12_init_1 8 rfl rfl)
theorem dJ12_init_33 : decode cJ12_init 33 = .ok (.aload_n 0, 1) := dk_42 (dk_at dksJ12_init_1 11 rfl rfl)
theorem dJ12_init_34 : decode cJ12_init 34 = .ok (.iconst 1, 1) := dk_4 (dk_at dksJ12_init_1 12 rfl rfl)
theorem dJ12_init_35 : decode cJ12_init 35 = .ok (.putfield 22, 3) := dk_181 0 22 (dk_at dksJ12_init_1 13 rfl rfl)
theorem dJ12_init_38 : decode cJ12_init 38 = .ok (.return_, 1) := dk_177 (dk_at dksJ12_init_1 16 rfl rfl)
theorem fpJ12_15_46 (n d : String) : sd_Fp ⟨"java/lang/AbstractStringBuilder", n, d⟩ 15 46 0 (.array .byte) := ⟨(RJ13, TJ13, 4), "java/lang/AbstractStringBuilder", tyJ13, rfl, by decide, rfl, in_J13, Or.inl rfl, tyJ13_ok, nmJ13, rfl, Or.inl ⟨rfl, Or.inl q545⟩⟩
theorem fpJ12_22_46 (n d : String) : sd_Fp ⟨"java/lang/AbstractStringBuilder", n, d⟩ 22 46 1 .byte := ⟨(RJ13, TJ13, 4), "java/lang/AbstractStringBuilder", tyJ13, rfl, by decide, rfl, in_J13, Or.inl rfl, tyJ13_ok, nmJ13, rfl, Or.inl ⟨rfl, Or.inl q546⟩⟩
abbrev mJ12_init : sd_Y := (yJ12_init, cJ12_init, 2, none, none)
def fJ12_init (G : sd_G) (a0 : Nat) (a1 : Int32) : sd_M Unit :=
  sd_bnd (sd_newI 2 a1) fun o1 =>
  sd_bnd (sd_put 46 0 (.array .byte) a0 (.ref o1)) fun _ =>
  sd_bnd (sd_put 46 1 .byte a0 (.int 0)) fun _ =>
  sd_ret ()
set_option maxHeartbeats 4000000 in
theorem sJ12_init (l : Launch) (G : sd_G) (a0 : Nat) (a1 : Int32) (h : sd_H) (ρ : Unit) (cT : Nat × Nat) (h2 : sd_H) (hf : fJ12_init G a0 a1 h = some (ρ, cT, h2)) : sd_Met mJ12_init ((l, G), (1, 12), [.ref a0, .int a1], (sd_oV ρ, h2), cT) h := by
  refine sd_entry (plainFor_of_name rfl) rfl (Nat.le_of_ble_eq_true rfl) ?_
  show sd_J mJ12_init ((l, G), (1, 12), [.ref a0, .int a1], (sd_oV ρ, h2), cT) 0 [(0, .ref a0), (1, .int a1)] [] h cT
  unfold fJ12_init at hf
  refine sj_aload_n 0 dJ12_init_0 rfl ?_
  refine sj_objInit q535 q188 q189 (Nat.le_of_ble_eq_true rfl) (Nat.le_of_ble_eq_true rfl) dJ12_init_1 ?_
  refine sj_gets (v := .int 1) 2 rfl rfl ⟨Or.inl q536, rfl⟩ dJ12_init_4 ?_
  refine sj_ifeqN 25 (by decide) dJ12_init_7 (by decide) ?_
  refine sj_aload_n 0 dJ12_init_10 rfl ?_
  refine sj_iload_n 1 dJ12_init_11 rfl ?_
  refine sj_newI (atype := .byte) q205 rfl rfl (by decide) sd_p2 hf dJ12_init_12 (fun o1 h c hf => ?_)
  refine sj_put (fpJ12_15_46 _ _) hf dJ12_init_14 (fun h hf => ?_)
  refine sj_aload_n 0 dJ12_init_17 rfl ?_
  refine sj_iconst (v := 0) dJ12_init_18 (by decide) ?_
  refine sj_put (fpJ12_22_46 _ _) hf dJ12_init_19 (fun h hf => ?_)
  refine sj_goto 38 dJ12_init_22 (by decide) ?_
  exact sj_vret (o := sd_oV) hf rfl rfl rfl dJ12_init_38
/-! java/lang/StringBuilder.<init>()V -/
abbrev cJ13_init : ByteArray := prog_69_method_1_code
def yJ13_init : MethodName := ⟨RJ13, "<init>", "()V"⟩
def dkwJ13_init_0 : List UInt8 := [42, 16, 16, 183, 0, 1, 177]
abbrev dktJ13_init_0 : List UInt8 := dkwJ13_init_0 ++ []
theorem dksJ13_init_0 : cJ13_init.data.toList.drop 0 = dktJ13_init_0 := by decide +kernel
theorem dJ13_init_0 : decode cJ13_init 0 = .ok (.aload_n 0, 1) := dk_42 (dk_at dksJ13_init_0 0 rfl rfl)
theorem dJ13_init_1 : decode cJ13_init 1 = .ok (.bipush 16, 2) := dk_16 16 (dk_at dksJ13_init_0 1 rfl rfl)
theorem dJ13_init_3 : decode cJ13_init 3 = .ok (.invokespecial 1, 3) := dk_183 0 1 (dk_at dksJ13_init_0 3 rfl rfl)
theorem dJ13_init_6 : decode cJ13_init 6 = .ok (.return_, 1) := dk_177 (dk_at dksJ13_init_0 6 rfl rfl)
abbrev mJ13_init : sd_Y := (yJ13_init, cJ13_init, 1, none, none)
def fJ13_init (G : sd_G) (a0 : Nat) : sd_M Unit :=
  sd_bnd (fJ12_init G a0 16) fun _ =>
  sd_ret ()
set_option maxHeartbeats 4000000 in
theorem sJ13_init (l : Launch) (G : sd_G) (a0 : Nat) (h : sd_H) (ρ : Unit) (cT : Nat × Nat) (h2 : sd_H) (hf : fJ13_init G a0 h = some (ρ, cT, h2)) : sd_Met mJ13_init ((l, G), (2, 33), [.ref a0], (sd_oV ρ, h2), cT) h := by
  refine sd_entry (plainFor_of_name rfl) rfl (Nat.le_of_ble_eq_true rfl) ?_
  show sd_J mJ13_init ((l, G), (2, 33), [.ref a0], (sd_oV ρ, h2), cT) 0 [(0, .ref a0)] [] h cT
  unfold fJ13_init at hf
  refine sj_aload_n 0 dJ13_init_0 rfl ?_
  refine sj_bipush (v := 16) dJ13_init_1 (by decide) ?_
  refine sj_cV (rest := []) (fun _ _ _ e => sj_runI (n := 1) (a := a0) (As := [.int 16]) (rest := []) (sJ12_init l G a0 16 h _ _ _ e) rfl rfl q532 q533 q139 q534 rfl (by decide +kernel) rfl rfl (fun _ z => by cases z) ⟨Nat.le_of_ble_eq_true rfl, Nat.le_of_ble_eq_true rfl⟩ rfl (Nat.le_of_ble_eq_true rfl) dJ13_init_3) hf (fun h c hf => ?_)
  exact sj_vret (o := sd_oV) hf rfl rfl rfl dJ13_init_6
/-! java/lang/AbstractStringBuilder.isLatin1()Z -/
abbrev cJ12_isLatin1 : ByteArray := prog_49_method_68_code
def yJ12_isLatin1 : MethodName := ⟨RJ12, "isLatin1", "()Z"⟩
def dkwJ12_isLatin1_0 : List UInt8 := [178, 0, 18, 153, 0, 14, 42, 180, 0, 22, 154, 0, 7, 4, 167, 0, 4, 3, 172]
abbrev dktJ12_isLatin1_0 : List UInt8 := dkwJ12_isLatin1_0 ++ []
theorem dksJ12_isLatin1_0 : cJ12_isLatin1.data.toList.drop 0 = dktJ12_isLatin1_0 := by decide +kernel
theorem dJ12_isLatin1_0 : decode cJ12_isLatin1 0 = .ok (.getstatic 18, 3) := dk_178 0 18 (dk_at dksJ12_isLatin1_0 0 rfl rfl)
theorem dJ12_isLatin1_3 : decode cJ12_isLatin1 3 = .ok (.ifCond .eq 14, 3) := dk_153 0 14 (dk_at dksJ12_isLatin1_0 3 rfl rfl)
theorem dJ12_isLatin1_6 : decode cJ12_isLatin1 6 = .ok (.aload_n 0, 1) := dk_42 (dk_at dksJ12_isLatin1_0 6 rfl rfl)
theorem dJ12_isLatin1_7 : decode cJ12_isLatin1 7 = .ok (.getfield 22, 3) := dk_180 0 22 (dk_at dksJ12_isLatin1_0 7 rfl rfl)
theorem dJ12_isLatin1_10 : decode cJ12_isLatin1 10 = .ok (.ifCond .ne 7, 3) := dk_154 0 7 (dk_at dksJ12_isLatin1_0 10 rfl rfl)
theorem dJ12_isLatin1_13 : decode cJ12_isLatin1 13 = .ok (.iconst 1, 1) := dk_4 (dk_at dksJ12_isLatin1_0 13 rfl rfl)
theorem dJ12_isLatin1_14 : decode cJ12_isLatin1 14 = .ok (.goto 4, 3) := dk_167 0 4 (dk_at dksJ12_isLatin1_0 14 rfl rfl)
theorem dJ12_isLatin1_17 : decode cJ12_isLatin1 17 = .ok (.iconst 0, 1) := dk_3 (dk_at dksJ12_isLatin1_0 17 rfl rfl)
theorem dJ12_isLatin1_18 : decode cJ12_isLatin1 18 = .ok (.ireturn, 1) := dk_172 (dk_at dksJ12_isLatin1_0 18 rfl rfl)
theorem fdJ12_22_46 : sd_Fd "java/lang/AbstractStringBuilder" 22 46 1 := ⟨(RJ13, TJ13, 4), "java/lang/AbstractStringBuilder", rfl, by decide, rfl, in_J13, Or.inl rfl, Or.inl q546⟩
abbrev mJ12_isLatin1 : sd_Y := (yJ12_isLatin1, cJ12_isLatin1, 1, some (.boolean), none)
def fJ12_isLatin1 (G : sd_G) (a0 : Nat) : sd_M Int32 :=
  sd_bnd (sd_getI G 46 1 a0) fun v1 =>
  if v1 = 0 then (
    sd_ret 1)
  else (
    sd_ret 0)
set_option maxHeartbeats 4000000 in
theorem sJ12_isLatin1 (l : Launch) (G : sd_G) (a0 : Nat) (h : sd_H) (ρ : Int32) (cT : Nat × Nat) (h2 : sd_H) (hf : fJ12_isLatin1 G a0 h = some (ρ, cT, h2)) : sd_Met mJ12_isLatin1 ((l, G), (0, 0), [.ref a0], (sd_oI ρ, h2), cT) h := by
  refine sd_entry (plainFor_of_name rfl) rfl (Nat.le_of_ble_eq_true rfl) ?_
  show sd_J mJ12_isLatin1 ((l, G), (0, 0), [.ref a0], (sd_oI ρ, h2), cT) 0 [(0, .ref a0)] [] h cT
  unfold fJ12_isLatin1 at hf
  refine sj_gets (v := .int 1) 2 rfl rfl ⟨Or.inl q536, rfl⟩ dJ12_isLatin1_0 ?_
  refine sj_ifeqN 17 (by decide) dJ12_isLatin1_3 (by decide) ?_
  refine sj_aload_n 0 dJ12_isLatin1_6 rfl ?_
  refine sj_getI fdJ12_22_46 hf dJ12_isLatin1_7 (fun v1 hf => ?_)
  refine sj_ifne 17 hf dJ12_isLatin1_10 (by decide) (fun g10 hf => ?_) (fun g10 hf => ?_)
  · refine sj_iconst (v := 0) dJ12_isLatin1_17 (by decide) ?_
    exact sj_zretC (o := sd_oI) (ty := .boolean) rfl hf rfl rfl rfl dJ12_isLatin1_18
  · refine sj_iconst (v := 1) dJ12_isLatin1_13 (by decide) ?_
    refine sj_goto 18 dJ12_isLatin1_14 (by decide) ?_
    exact sj_zretC (o := sd_oI) (ty := .boolean) rfl hf rfl rfl rfl dJ12_isLatin1_18
/-! java/lang/AbstractStringBuilder.newCapacity(I)I -/
abbrev cJ12_newCapacity : ByteArray := prog_49_method_10_code
def yJ12_newCapacity : MethodName := ⟨RJ12, "newCapacity", "(I)I"⟩
def dkwJ12_newCapacity_2 : List UInt8 := [183, 0, 124, 191, 21, 5, 42, 180, 0, 22, 122, 172]
abbrev dktJ12_newCapacity_2 : List UInt8 := dkwJ12_newCapacity_2 ++ []
def dkwJ12_newCapacity_1 : List UInt8 := [180, 0, 22, 120, 96, 184, 0, 114, 54, 5, 21, 5, 18, 39, 160, 0, 13, 187, 0, 120, 89, 18, 122]
abbrev dktJ12_newCapacity_1 : List UInt8 := dkwJ12_newCapacity_1 ++ dktJ12_newCapacity_2
def dkwJ12_newCapacity_0 : List UInt8 := [42, 180, 0, 15, 190, 61, 27, 42, 180, 0, 22, 120, 62, 29, 28, 100, 54, 4, 28, 21, 4, 28, 5, 42]
abbrev dktJ12_newCapacity_0 : List UInt8 := dkwJ12_newCapacity_0 ++ dktJ12_newCapacity_1
theorem dksJ12_newCapacity_0 : cJ12_newCapacity.data.toList.drop 0 = dktJ12_newCapacity_0 := by decide +kernel
theorem dksJ12_newCapacity_1 : cJ12_newCapacity.data.toList.drop 24 = dktJ12_newCapacity_1 := dk_seg dksJ12_newCapacity_0 24 rfl rfl
theorem dksJ12_newCapacity_2 : cJ12_newCapacity.data.toList.drop 47 = dktJ12_newCapacity_2 := dk_seg dksJ12_newCapacity_1 23 rfl rfl
theorem dJ12_newCapacity_0 : decode cJ12_newCapacity 0 = .ok (.aload_n 0, 1) := dk_42 (dk_at dksJ12_newCapacity_0 0 rfl rfl)
theorem dJ12_newCapacity_1 : decode cJ12_newCapacity 1 = .ok (.getfield 15, 3) := dk_180 0 15 (dk_at dksJ12_newCapacity_0 1 rfl rfl)
theorem dJ12_newCapacity_4 : decode cJ12_newCapacity 4 = .ok (.arraylength, 1) := dk_190 (dk_at dksJ12_newCapacity_0 4 rfl rfl)
theorem dJ12_newCapacity_5 : decode cJ12_newCapacity 5 = .ok (.istore_n 2, 1) := dk_61 (dk_at dksJ12_newCapacity_0 5 rfl rfl)
theorem dJ12_newCapacity_6 : decode cJ12_newCapacity 6 = .ok (.iload_n 1, 1) := dk_27 (dk_at dksJ12_newCapacity_0 6 rfl rfl)
theorem dJ12_newCapacity_7 : decode cJ12_newCapacity 7 = .ok (.aload_n 0, 1) := dk_42 (dk_at dksJ12_newCapacity_0 7 rfl rfl)
theorem dJ12_newCapacity_8 : decode cJ12_newCapacity 8 = .ok (.getfield 22, 3) := dk_180 0 22 (dk_at dksJ12_newCapacity_0 8 rfl rfl)
theorem dJ12_newCapacity_11 : decode cJ12_newCapacity 11 = .ok (.ishl, 1) := dk_120 (dk_at dksJ12_newCapacity_0 11 rfl rfl)
theorem dJ12_newCapacity_12 : decode cJ12_newCapacity 12 = .ok (.istore_n 3, 1) := dk_62 (dk_at dksJ12_newCapacity_0 12 rfl rfl)
theorem dJ12_newCapacity_13 : decode cJ12_newCapacity 13 = .ok (.iload_n 3, 1) := dk_29 (dk_at dksJ12_newCapacity_0 13 rfl rfl)
theorem dJ12_newCapacity_14 : decode cJ12_newCapacity 14 = .ok (.iload_n 2, 1) := dk_28 (dk_at dksJ12_newCapacity_0 14 rfl rfl)
theorem dJ12_newCapacity_15 : decode cJ12_newCapacity 15 = .ok (.isub, 1) := dk_100 (dk_at dksJ12_newCapacity_0 15 rfl rfl)
theorem dJ12_newCapacity_16 : decode cJ12_newCapacity 16 = .ok (.istore 4, 2) := dk_54 4 (dk_at dksJ12_newCapacity_0 16 rfl rfl)
theorem dJ12_newCapacity_18 : decode cJ12_newCapacity 18 = .ok (.iload_n 2, 1) := dk_28 (dk_at dksJ12_newCapacity_0 18 rfl rfl)
theorem dJ12_newCapacity_19 : decode cJ12_newCapacity 19 = .ok (.iload 4, 2) := dk_21 4 (dk_at dksJ12_newCapacity_0 19 rfl rfl)
theorem dJ12_newCapacity_21 : decode cJ12_newCapacity 21 = .ok (.iload_n 2, 1) := dk_28 (dk_at dksJ12_newCapacity_0 21 rfl rfl)
theorem dJ12_newCapacity_22 : decode cJ12_newCapacity 22 = .ok (.iconst 2, 1) := dk_5 (dk_at dksJ12_newCapacity_0 22 rfl rfl)
theorem dJ12_newCapacity_23 : decode cJ12_newCapacity 23 = .ok (.aload_n 0, 1) := dk_42 (dk_at dksJ12_newCapacity_0 23 rfl rfl)
theorem dJ12_newCapacity_24 : decode cJ12_newCapacity 24 = .ok (.getfield 22, 3) := dk_180 0 22 (dk_at dksJ12_newCapacity_1 0 rfl rfl)
theorem dJ12_newCapacity_27 : decode cJ12_newCapacity 27 = .ok (.ishl, 1) := dk_120 (dk_at dksJ12_newCapacity_1 3 rfl rfl)
theorem dJ12_newCapacity_28 : decode cJ12_newCapacity 28 = .ok (.iadd, 1) := dk_96 (dk_at dksJ12_newCapacity_1 4 rfl rfl)
theorem dJ12_newCapacity_29 : decode cJ12_newCapacity 29 = .ok (.invokestatic 114, 3) := dk_184 0 114 (dk_at dksJ12_newCapacity_1 5 rfl rfl)
theorem dJ12_newCapacity_32 : decode cJ12_newCapacity 32 = .ok (.istore 5, 2) := dk_54 5 (dk_at dksJ12_newCapacity_1 8 rfl rfl)
theorem dJ12_newCapacity_34 : decode cJ12_newCapacity 34 = .ok (.iload 5, 2) := dk_21 5 (dk_at dksJ12_newCapacity_1 10 rfl rfl)
theorem dJ12_newCapacity_36 : decode cJ12_newCapacity 36 = .ok (.ldc 39, 2) := dk_18 39 (dk_at dksJ12_newCapacity_1 12 rfl rfl)
theorem dJ12_newCapacity_38 : decode cJ12_newCapacity 38 = .ok (.if_icmp .ne 13, 3) := dk_160 0 13 (dk_at dksJ12_newCapacity_1 14 rfl rfl)
theorem dJ12_newCapacity_41 : decode cJ12_newCapacity 41 = .ok (.new 120, 3) := dk_187 0 120 (dk_at dksJ12_newCapacity_1 17 rfl rfl)
theorem dJ12_newCapacity_44 : decode cJ12_newCapacity 44 = .ok (.dup, 1) := dk_89 (dk_at dksJ12_newCapacity_1 20 rfl rfl)
theorem dJ12_newCapacity_45 : decode cJ12_newCapacity 45 = .ok (.ldc 122, 2) := dk_18 122 (dk_at dksJ12_newCapacity_1 21 rfl rfl)
theorem dJ12_newCapacity_47 : decode cJ12_newCapacity 47 = .ok (.invokespecial 124, 3) := dk_183 0 124 (dk_at dksJ12_newCapacity_2 0 rfl rfl)
theorem dJ12_newCapacity_50 : decode cJ12_newCapacity 50 = .ok (.athrow, 1) := dk_191 (dk_at dksJ12_newCapacity_2 3 rfl rfl)
theorem dJ12_newCapacity_51 : decode cJ12_newCapacity 51 = .ok (.iload 5, 2) := dk_21 5 (dk_at dksJ12_newCapacity_2 4 rfl rfl)
theorem dJ12_newCapacity_53 : decode cJ12_newCapacity 53 = .ok (.aload_n 0, 1) := dk_42 (dk_at dksJ12_newCapacity_2 6 rfl rfl)
theorem dJ12_newCapacity_54 : decode cJ12_newCapacity 54 = .ok (.getfield 22, 3) := dk_180 0 22 (dk_at dksJ12_newCapacity_2 7 rfl rfl)
theorem dJ12_newCapacity_57 : decode cJ12_newCapacity 57 = .ok (.ishr, 1) := dk_122 (dk_at dksJ12_newCapacity_2 10 rfl rfl)
theorem dJ12_newCapacity_58 : decode cJ12_newCapacity 58 = .ok (.ireturn, 1) := dk_172 (dk_at dksJ12_newCapacity_2 11 rfl rfl)
theorem fdJ12_15_46 : sd_Fd "java/lang/AbstractStringBuilder" 15 46 0 := ⟨(RJ13, TJ13, 4), "java/lang/AbstractStringBuilder", rfl, by decide, rfl, in_J13, Or.inl rfl, Or.inl q545⟩
abbrev mJ12_newCapacity : sd_Y := (yJ12_newCapacity, cJ12_newCapacity, 6, some (.int), none)
def fJ12_newCapacity (G : sd_G) (a0 : Nat) (a1 : Int32) : sd_M Int32 :=
  sd_bnd (sd_getR G 46 0 a0) fun v1 =>
  sd_bnd (sd_alen G v1) fun v2 =>
  sd_bnd (sd_getI G 46 1 a0) fun v3 =>
  sd_bnd (sd_ret (a1 <<< (v3 &&& 31))) fun x4 =>
  sd_bnd (sd_ret (x4 - v2)) fun x5 =>
  sd_bnd (sd_getI G 46 1 a0) fun v6 =>
  sd_bnd (fJ3_newLength G v2 x5 (v2 + ((2 : Int32) <<< (v6 &&& 31)))) fun r7 =>
  if r7 = 2147483647 then (
    sd_fail)
  else (
    sd_bnd (sd_getI G 46 1 a0) fun v8 =>
    sd_ret (r7 >>> (v8 &&& 31)))
set_option maxHeartbeats 4000000 in
theorem sJ12_newCapacity (l : Launch) (G : sd_G) (a0 : Nat) (a1 : Int32) (h : sd_H) (ρ : Int32) (cT : Nat × Nat) (h2 : sd_H) (hf : fJ12_newCapacity G a0 a1 h = some (ρ, cT, h2)) : sd_Met mJ12_newCapacity ((l, G), (2, 44), [.ref a0, .int a1], (sd_oI ρ, h2), cT) h := by
  refine sd_entry (plainFor_of_name rfl) rfl (Nat.le_of_ble_eq_true rfl) ?_
  show sd_J mJ12_newCapacity ((l, G), (2, 44), [.ref a0, .int a1], (sd_oI ρ, h2), cT) 0 [(0, .ref a0), (1, .int a1)] [] h cT
  unfold fJ12_newCapacity at hf
  refine sj_aload_n 0 dJ12_newCapacity_0 rfl ?_
  refine sj_getR fdJ12_15_46 hf dJ12_newCapacity_1 (fun v1 hf => ?_)
  refine sj_alen hf dJ12_newCapacity_4 (fun v2 hf => ?_)
  refine sj_istore_n [(2, .int v2), (0, .ref a0), (1, .int a1)] dJ12_newCapacity_5 (by decide) rfl ?_
  refine sj_iload_n 2 dJ12_newCapacity_6 rfl ?_
  refine sj_aload_n 1 dJ12_newCapacity_7 rfl ?_
  refine sj_getI fdJ12_22_46 hf dJ12_newCapacity_8 (fun v3 hf => ?_)
  refine sj_ishl dJ12_newCapacity_11 ?_
  refine sj_nameI hf (fun x4 hf => ?_)
  refine sj_istore_n [(3, .int x4), (2, .int v2), (0, .ref a0), (1, .int a1)] dJ12_newCapacity_12 (by decide) rfl ?_
  refine sj_iload_n 0 dJ12_newCapacity_13 rfl ?_
  refine sj_iload_n 1 dJ12_newCapacity_14 rfl ?_
  refine sj_isub dJ12_newCapacity_15 ?_
  refine sj_nameI hf (fun x5 hf => ?_)
  refine sj_istore [(4, .int x5), (3, .int x4), (2, .int v2), (0, .ref a0), (1, .int a1)] dJ12_newCapacity_16 (by decide) rfl ?_
  refine sj_iload_n 2 dJ12_newCapacity_18 rfl ?_
  refine sj_iload 0 dJ12_newCapacity_19 rfl ?_
  refine sj_iload_n 2 dJ12_newCapacity_21 rfl ?_
  refine sj_iconst (v := 2) dJ12_newCapacity_22 (by decide) ?_
  refine sj_aload_n 3 dJ12_newCapacity_23 rfl ?_
  refine sj_getI fdJ12_22_46 hf dJ12_newCapacity_24 (fun v6 hf => ?_)
  refine sj_ishl dJ12_newCapacity_27 ?_
  refine sj_iadd dJ12_newCapacity_28 ?_
  refine sj_cI (rest := []) (fun _ _ _ e => sj_runS (n := 3) (rest := []) (sJ3_newLength l G v2 x5 (v2 + ((2 : Int32) <<< (v6 &&& 31))) h _ _ _ e) rfl rfl q574 q354 q123 q355 (by decide +kernel) rfl ⟨Nat.le_of_ble_eq_true rfl, Nat.le_of_ble_eq_true rfl⟩ rfl (Nat.le_of_ble_eq_true rfl) dJ12_newCapacity_29) hf (fun r7 h c hf => ?_)
  refine sj_istore [(5, .int r7), (4, .int x5), (3, .int x4), (2, .int v2), (0, .ref a0), (1, .int a1)] dJ12_newCapacity_32 (by decide) rfl ?_
  refine sj_iload 0 dJ12_newCapacity_34 rfl ?_
  refine sj_ldc q575 dJ12_newCapacity_36 ?_
  refine sj_icne 51 hf dJ12_newCapacity_38 (by decide) (fun g38 hf => ?_) (fun g38 hf => ?_)
  · refine sj_iload 0 dJ12_newCapacity_51 rfl ?_
    refine sj_aload_n 4 dJ12_newCapacity_53 rfl ?_
    refine sj_getI fdJ12_22_46 hf dJ12_newCapacity_54 (fun v8 hf => ?_)
    refine sj_ishr dJ12_newCapacity_57 ?_
    exact sj_iret (o := sd_oI) hf rfl rfl rfl dJ12_newCapacity_58
  · cases hf
/-! java/util/Arrays.copyOf([BI)[B -/
abbrev cJ5_copyOf_3 : ByteArray := prog_82_method_121_code
def yJ5_copyOf_3 : MethodName := ⟨RJ5, "copyOf", "([BI)[B"⟩
def dkwJ5_copyOf_3_1 : List UInt8 := [27, 184, 1, 48, 184, 0, 150, 44, 176]
abbrev dktJ5_copyOf_3_1 : List UInt8 := dkwJ5_copyOf_3_1 ++ []
def dkwJ5_copyOf_3_0 : List UInt8 := [27, 42, 190, 160, 0, 11, 42, 182, 1, 54, 192, 1, 55, 176, 27, 188, 8, 77, 42, 3, 44, 3, 42, 190]
abbrev dktJ5_copyOf_3_0 : List UInt8 := dkwJ5_copyOf_3_0 ++ dktJ5_copyOf_3_1
theorem dksJ5_copyOf_3_0 : cJ5_copyOf_3.data.toList.drop 0 = dktJ5_copyOf_3_0 := by decide +kernel
theorem dksJ5_copyOf_3_1 : cJ5_copyOf_3.data.toList.drop 24 = dktJ5_copyOf_3_1 := dk_seg dksJ5_copyOf_3_0 24 rfl rfl
theorem dJ5_copyOf_3_0 : decode cJ5_copyOf_3 0 = .ok (.iload_n 1, 1) := dk_27 (dk_at dksJ5_copyOf_3_0 0 rfl rfl)
theorem dJ5_copyOf_3_1 : decode cJ5_copyOf_3 1 = .ok (.aload_n 0, 1) := dk_42 (dk_at dksJ5_copyOf_3_0 1 rfl rfl)
theorem dJ5_copyOf_3_2 : decode cJ5_copyOf_3 2 = .ok (.arraylength, 1) := dk_190 (dk_at dksJ5_copyOf_3_0 2 rfl rfl)
theorem dJ5_copyOf_3_3 : decode cJ5_copyOf_3 3 = .ok (.if_icmp .ne 11, 3) := dk_160 0 11 (dk_at dksJ5_copyOf_3_0 3 rfl rfl)
theorem dJ5_copyOf_3_6 : decode cJ5_copyOf_3 6 = .ok (.aload_n 0, 1) := dk_42 (dk_at dksJ5_copyOf_3_0 6 rfl rfl)
theorem dJ5_copyOf_3_7 : decode cJ5_copyOf_3 7 = .ok (.invokevirtual 310, 3) := dk_182 1 54 (dk_at dksJ5_copyOf_3_0 7 rfl rfl)
theorem dJ5_copyOf_3_10 : decode cJ5_copyOf_3 10 = .ok (.checkcast 311, 3) := dk_192 1 55 (dk_at dksJ5_copyOf_3_0 10 rfl rfl)
theorem dJ5_copyOf_3_13 : decode cJ5_copyOf_3 13 = .ok (.areturn, 1) := dk_176 (dk_at dksJ5_copyOf_3_0 13 rfl rfl)
theorem dJ5_copyOf_3_14 : decode cJ5_copyOf_3 14 = .ok (.iload_n 1, 1) := dk_27 (dk_at dksJ5_copyOf_3_0 14 rfl rfl)
theorem dJ5_copyOf_3_15 : decode cJ5_copyOf_3 15 = .ok (.newarray .byte, 2) := dk_188_8 (dk_at dksJ5_copyOf_3_0 15 rfl rfl)
theorem dJ5_copyOf_3_17 : decode cJ5_copyOf_3 17 = .ok (.astore_n 2, 1) := dk_77 (dk_at dksJ5_copyOf_3_0 17 rfl rfl)
theorem dJ5_copyOf_3_18 : decode cJ5_copyOf_3 18 = .ok (.aload_n 0, 1) := dk_42 (dk_at dksJ5_copyOf_3_0 18 rfl rfl)
theorem dJ5_copyOf_3_19 : decode cJ5_copyOf_3 19 = .ok (.iconst 0, 1) := dk_3 (dk_at dksJ5_copyOf_3_0 19 rfl rfl)
theorem dJ5_copyOf_3_20 : decode cJ5_copyOf_3 20 = .ok (.aload_n 2, 1) := dk_44 (dk_at dksJ5_copyOf_3_0 20 rfl rfl)
theorem dJ5_copyOf_3_21 : decode cJ5_copyOf_3 21 = .ok (.iconst 0, 1) := dk_3 (dk_at dksJ5_copyOf_3_0 21 rfl rfl)
theorem dJ5_copyOf_3_22 : decode cJ5_copyOf_3 22 = .ok (.aload_n 0, 1) := dk_42 (dk_at dksJ5_copyOf_3_0 22 rfl rfl)
theorem dJ5_copyOf_3_23 : decode cJ5_copyOf_3 23 = .ok (.arraylength, 1) := dk_190 (dk_at dksJ5_copyOf_3_0 23 rfl rfl)
theorem dJ5_copyOf_3_24 : decode cJ5_copyOf_3 24 = .ok (.iload_n 1, 1) := dk_27 (dk_at dksJ5_copyOf_3_1 0 rfl rfl)
theorem dJ5_copyOf_3_25 : decode cJ5_copyOf_3 25 = .ok (.invokestatic 304, 3) := dk_184 1 48 (dk_at dksJ5_copyOf_3_1 1 rfl rfl)
theorem dJ5_copyOf_3_28 : decode cJ5_copyOf_3 28 = .ok (.invokestatic 150, 3) := dk_184 0 150 (dk_at dksJ5_copyOf_3_1 4 rfl rfl)
theorem dJ5_copyOf_3_31 : decode cJ5_copyOf_3 31 = .ok (.aload_n 2, 1) := dk_44 (dk_at dksJ5_copyOf_3_1 7 rfl rfl)
theorem dJ5_copyOf_3_32 : decode cJ5_copyOf_3 32 = .ok (.areturn, 1) := dk_176 (dk_at dksJ5_copyOf_3_1 8 rfl rfl)
abbrev mJ5_copyOf_3 : sd_Y := (yJ5_copyOf_3, cJ5_copyOf_3, 3, some (.array .byte), none)
def fJ5_copyOf_3 (G : sd_G) (a1 : Nat) (a2 : Int32) : sd_M Nat :=
  sd_bnd (sd_alen G a1) fun v1 =>
  if a2 = v1 then (
    sd_fail)
  else (
    sd_bnd (sd_newI 2 a2) fun o2 =>
    sd_bnd (sd_alen G a1) fun v3 =>
    sd_bnd (fJ4_min G v3 a2) fun r4 =>
    sd_bnd (sd_cpI G 2 a1 0 o2 0 r4) fun _ =>
    sd_ret o2)
set_option maxHeartbeats 4000000 in
theorem sJ5_copyOf_3 (l : Launch) (G : sd_G) (a1 : Nat) (a2 : Int32) (h : sd_H) (ρ : Nat) (cT : Nat × Nat) (h2 : sd_H) (hf : fJ5_copyOf_3 G a1 a2 h = some (ρ, cT, h2)) : sd_Met mJ5_copyOf_3 ((l, G), (1, 21), [.ref a1, .int a2], (sd_oR ρ, h2), cT) h := by
  refine sd_entry (plainFor_of_name rfl) rfl (Nat.le_of_ble_eq_true rfl) ?_
  show sd_J mJ5_copyOf_3 ((l, G), (1, 21), [.ref a1, .int a2], (sd_oR ρ, h2), cT) 0 [(0, .ref a1), (1, .int a2)] [] h cT
  unfold fJ5_copyOf_3 at hf
  refine sj_iload_n 1 dJ5_copyOf_3_0 rfl ?_
  refine sj_aload_n 0 dJ5_copyOf_3_1 rfl ?_
  refine sj_alen hf dJ5_copyOf_3_2 (fun v1 hf => ?_)
  refine sj_icne 14 hf dJ5_copyOf_3_3 (by decide) (fun g3 hf => ?_) (fun g3 hf => ?_)
  · refine sj_iload_n 1 dJ5_copyOf_3_14 rfl ?_
    refine sj_newI (atype := .byte) q205 rfl rfl (by decide) sd_p2 hf dJ5_copyOf_3_15 (fun o2 h c hf => ?_)
    refine sj_astore_n [(2, .ref o2), (0, .ref a1), (1, .int a2)] dJ5_copyOf_3_17 (by decide) rfl ?_
    refine sj_aload_n 1 dJ5_copyOf_3_18 rfl ?_
    refine sj_iconst (v := 0) dJ5_copyOf_3_19 (by decide) ?_
    refine sj_aload_n 0 dJ5_copyOf_3_20 rfl ?_
    refine sj_iconst (v := 0) dJ5_copyOf_3_21 (by decide) ?_
    refine sj_aload_n 1 dJ5_copyOf_3_22 rfl ?_
    refine sj_alen hf dJ5_copyOf_3_23 (fun v3 hf => ?_)
    refine sj_iload_n 2 dJ5_copyOf_3_24 rfl ?_
    refine sj_cI (rest := [.int 0, .ref o2, .int 0, .ref a1]) (fun _ _ _ e => sj_runS (n := 2) (rest := [.int 0, .ref o2, .int 0, .ref a1]) (sJ4_min l G v3 a2 h _ _ _ e) rfl rfl q431 q432 q124 q433 (by decide +kernel) rfl ⟨Nat.le_of_ble_eq_true rfl, Nat.le_of_ble_eq_true rfl⟩ rfl (Nat.le_of_ble_eq_true rfl) dJ5_copyOf_3_25) hf (fun r4 h c hf => ?_)
    refine sj_cpI q434 (Nat.le_of_ble_eq_true rfl) (Nat.le_of_ble_eq_true rfl) hf dJ5_copyOf_3_28 (fun h hf => ?_)
    refine sj_aload_n 0 dJ5_copyOf_3_31 rfl ?_
    exact sj_aret (o := sd_oR) hf rfl rfl rfl (Or.inr ⟨_, rfl⟩) dJ5_copyOf_3_32
  · cases hf
/-! java/lang/AbstractStringBuilder.ensureCapacityInternal(I)V -/
abbrev cJ12_ensureCapacityInternal : ByteArray := prog_49_method_9_code
def yJ12_ensureCapacityInternal : MethodName := ⟨RJ12, "ensureCapacityInternal", "(I)V"⟩
def dkwJ12_ensureCapacityInternal_1 : List UInt8 := [182, 0, 104, 42, 180, 0, 22, 120, 184, 0, 108, 181, 0, 15, 177]
abbrev dktJ12_ensureCapacityInternal_1 : List UInt8 := dkwJ12_ensureCapacityInternal_1 ++ []
def dkwJ12_ensureCapacityInternal_0 : List UInt8 := [42, 180, 0, 15, 190, 42, 180, 0, 22, 122, 61, 27, 28, 100, 158, 0, 24, 42, 42, 180, 0, 15, 42, 27]
abbrev dktJ12_ensureCapacityInternal_0 : List UInt8 := dkwJ12_ensureCapacityInternal_0 ++ dktJ12_ensureCapacityInternal_1
theorem dksJ12_ensureCapacityInternal_0 : cJ12_ensureCapacityInternal.data.toList.drop 0 = dktJ12_ensureCapacityInternal_0 := by decide +kernel
theorem dksJ12_ensureCapacityInternal_1 : cJ12_ensureCapacityInternal.data.toList.drop 24 = dktJ12_ensureCapacityInternal_1 := dk_seg dksJ12_ensureCapacityInternal_0 24 rfl rfl
theorem dJ12_ensureCapacityInternal_0 : decode cJ12_ensureCapacityInternal 0 = .ok (.aload_n 0, 1) := dk_42 (dk_at dksJ12_ensureCapacityInternal_0 0 rfl rfl)
theorem dJ12_ensureCapacityInternal_1 : decode cJ12_ensureCapacityInternal 1 = .ok (.getfield 15, 3) := dk_180 0 15 (dk_at dksJ12_ensureCapacityInternal_0 1 rfl rfl)
theorem dJ12_ensureCapacityInternal_4 : decode cJ12_ensureCapacityInternal 4 = .ok (.arraylength, 1) := dk_190 (dk_at dksJ12_ensureCapacityInternal_0 4 rfl rfl)
theorem dJ12_ensureCapacityInternal_5 : decode cJ12_ensureCapacityInternal 5 = .ok (.aload_n 0, 1) := dk_42 (dk_at dksJ12_ensureCapacityInternal_0 5 rfl rfl)
theorem dJ12_ensureCapacityInternal_6 : decode cJ12_ensureCapacityInternal 6 = .ok (.getfield 22, 3) := dk_180 0 22 (dk_at dksJ12_ensureCapacityInternal_0 6 rfl rfl)
theorem dJ12_ensureCapacityInternal_9 : decode cJ12_ensureCapacityInternal 9 = .ok (.ishr, 1) := dk_122 (dk_at dksJ12_ensureCapacityInternal_0 9 rfl rfl)
theorem dJ12_ensureCapacityInternal_10 : decode cJ12_ensureCapacityInternal 10 = .ok (.istore_n 2, 1) := dk_61 (dk_at dksJ12_ensureCapacityInternal_0 10 rfl rfl)
theorem dJ12_ensureCapacityInternal_11 : decode cJ12_ensureCapacityInternal 11 = .ok (.iload_n 1, 1) := dk_27 (dk_at dksJ12_ensureCapacityInternal_0 11 rfl rfl)
theorem dJ12_ensureCapacityInternal_12 : decode cJ12_ensureCapacityInternal 12 = .ok (.iload_n 2, 1) := dk_28 (dk_at dksJ12_ensureCapacityInternal_0 12 rfl rfl)
theorem dJ12_ensureCapacityInternal_13 : decode cJ12_ensureCapacityInternal 13 = .ok (.isub, 1) := dk_100 (dk_at dksJ12_ensureCapacityInternal_0 13 rfl rfl)
theorem dJ12_ensureCapacityInternal_14 : decode cJ12_ensureCapacityInternal 14 = .ok (.ifCond .le 24, 3) := dk_158 0 24 (dk_at dksJ12_ensureCapacityInternal_0 14 rfl rfl)
theorem dJ12_ensureCapacityInternal_17 : decode cJ12_ensureCapacityInternal 17 = .ok (.aload_n 0, 1) := dk_42 (dk_at dksJ12_ensureCapacityInternal_0 17 rfl rfl)
theorem dJ12_ensureCapacityInternal_18 : decode cJ12_ensureCapacityInternal 18 = .ok (.aload_n 0, 1) := dk_42 (dk_at dksJ12_ensureCapacityInternal_0 18 rfl rfl)
theorem dJ12_ensureCapacityInternal_19 : decode cJ12_ensureCapacityInternal 19 = .ok (.getfield 15, 3) := dk_180 0 15 (dk_at dksJ12_ensureCapacityInternal_0 19 rfl rfl)
theorem dJ12_ensureCapacityInternal_22 : decode cJ12_ensureCapacityInternal 22 = .ok (.aload_n 0, 1) := dk_42 (dk_at dksJ12_ensureCapacityInternal_0 22 rfl rfl)
theorem dJ12_ensureCapacityInternal_23 : decode cJ12_ensureCapacityInternal 23 = .ok (.iload_n 1, 1) := dk_27 (dk_at dksJ12_ensureCapacityInternal_0 23 rfl rfl)
theorem dJ12_ensureCapacityInternal_24 : decode cJ12_ensureCapacityInternal 24 = .ok (.invokevirtual 104, 3) := dk_182 0 104 (dk_at dksJ12_ensureCapacityInternal_1 0 rfl rfl)
theorem dJ12_ensureCapacityInternal_27 : decode cJ12_ensureCapacityInternal 27 = .ok (.aload_n 0, 1) := dk_42 (dk_at dksJ12_ensureCapacityInternal_1 3 rfl rfl)
theorem dJ12_ensureCapacityInternal_28 : decode cJ12_ensureCapacityInternal 28 = .ok (.getfield 22, 3) := dk_180 0 22 (dk_at dksJ12_ensureCapacityInternal_1 4 rfl rfl)
theorem dJ12_ensureCapacityInternal_31 : decode cJ12_ensureCapacityInternal 31 = .ok (.ishl, 1) := dk_120 (dk_at dksJ12_ensureCapacityInternal_1 7 rfl rfl)
theorem dJ12_ensureCapacityInternal_32 : decode cJ12_ensureCapacityInternal 32 = .ok (.invokestatic 108, 3) := dk_184 0 108 (dk_at dksJ12_ensureCapacityInternal_1 8 rfl rfl)
theorem dJ12_ensureCapacityInternal_35 : decode cJ12_ensureCapacityInternal 35 = .ok (.putfield 15, 3) := dk_181 0 15 (dk_at dksJ12_ensureCapacityInternal_1 11 rfl rfl)
theorem dJ12_ensureCapacityInternal_38 : decode cJ12_ensureCapacityInternal 38 = .ok (.return_, 1) := dk_177 (dk_at dksJ12_ensureCapacityInternal_1 14 rfl rfl)
abbrev mJ12_ensureCapacityInternal : sd_Y := (yJ12_ensureCapacityInternal, cJ12_ensureCapacityInternal, 3, none, none)
def fJ12_ensureCapacityInternal (G : sd_G) (a0 : Nat) (a1 : Int32) : sd_M Unit :=
  sd_bnd (sd_getR G 46 0 a0) fun v1 =>
  sd_bnd (sd_alen G v1) fun v2 =>
  sd_bnd (sd_getI G 46 1 a0) fun v3 =>
  sd_bnd (sd_ret (v2 >>> (v3 &&& 31))) fun x4 =>
  if (a1 - x4) ≤ 0 then (
    sd_ret ())
  else (
    sd_bnd (sd_getR G 46 0 a0) fun v5 =>
    sd_bnd (sd_isC G 46 a0) fun _ =>
    sd_bnd (fJ12_newCapacity G a0 a1) fun r6 =>
    sd_bnd (sd_getI G 46 1 a0) fun v7 =>
    sd_bnd (fJ5_copyOf_3 G v5 (r6 <<< (v7 &&& 31))) fun r8 =>
    sd_bnd (sd_put 46 0 (.array .byte) a0 (.ref r8)) fun _ =>
    sd_ret ())
set_option maxHeartbeats 4000000 in
theorem sJ12_ensureCapacityInternal (l : Launch) (G : sd_G) (a0 : Nat) (a1 : Int32) (h : sd_H) (ρ : Unit) (cT : Nat × Nat) (h2 : sd_H) (hf : fJ12_ensureCapacityInternal G a0 a1 h = some (ρ, cT, h2)) : sd_Met mJ12_ensureCapacityInternal ((l, G), (3, 69), [.ref a0, .int a1], (sd_oV ρ, h2), cT) h := by
  refine sd_entry (plainFor_of_name rfl) rfl (Nat.le_of_ble_eq_true rfl) ?_
  show sd_J mJ12_ensureCapacityInternal ((l, G), (3, 69), [.ref a0, .int a1], (sd_oV ρ, h2), cT) 0 [(0, .ref a0), (1, .int a1)] [] h cT
  unfold fJ12_ensureCapacityInternal at hf
  refine sj_aload_n 0 dJ12_ensureCapacityInternal_0 rfl ?_
  refine sj_getR fdJ12_15_46 hf dJ12_ensureCapacityInternal_1 (fun v1 hf => ?_)
  refine sj_alen hf dJ12_ensureCapacityInternal_4 (fun v2 hf => ?_)
  refine sj_aload_n 0 dJ12_ensureCapacityInternal_5 rfl ?_
  refine sj_getI fdJ12_22_46 hf dJ12_ensureCapacityInternal_6 (fun v3 hf => ?_)
  refine sj_ishr dJ12_ensureCapacityInternal_9 ?_
  refine sj_nameI hf (fun x4 hf => ?_)
  refine sj_istore_n [(2, .int x4), (0, .ref a0), (1, .int a1)] dJ12_ensureCapacityInternal_10 (by decide) rfl ?_
  refine sj_iload_n 2 dJ12_ensureCapacityInternal_11 rfl ?_
  refine sj_iload_n 0 dJ12_ensureCapacityInternal_12 rfl ?_
  refine sj_isub dJ12_ensureCapacityInternal_13 ?_
  refine sj_ifle 38 hf dJ12_ensureCapacityInternal_14 (by decide) (fun g14 hf => ?_) (fun g14 hf => ?_)
  · exact sj_vret (o := sd_oV) hf rfl rfl rfl dJ12_ensureCapacityInternal_38
  · refine sj_aload_n 1 dJ12_ensureCapacityInternal_17 rfl ?_
    refine sj_aload_n 1 dJ12_ensureCapacityInternal_18 rfl ?_
    refine sj_getR fdJ12_15_46 hf dJ12_ensureCapacityInternal_19 (fun v5 hf => ?_)
    refine sj_aload_n 1 dJ12_ensureCapacityInternal_22 rfl ?_
    refine sj_iload_n 2 dJ12_ensureCapacityInternal_23 rfl ?_
    obtain ⟨fs24, he24, hf⟩ := sd_isC_some hf
    refine sj_cI (rest := [.ref v5, .ref a0]) (fun _ _ _ e => sj_runP (n := 1) (As := [.int a1]) (rest := [.ref v5, .ref a0]) (sJ12_newCapacity l G a0 a1 h _ _ _ e) he24 rfl rfl rfl q570 q3416 q571 q572 q139 q573 (by decide +kernel) rfl rfl (fun _ z => by cases z) ⟨Nat.le_of_ble_eq_true rfl, Nat.le_of_ble_eq_true rfl⟩ rfl (Nat.le_of_ble_eq_true rfl) dJ12_ensureCapacityInternal_24) hf (fun r6 h c hf => ?_)
    refine sj_aload_n 1 dJ12_ensureCapacityInternal_27 rfl ?_
    refine sj_getI fdJ12_22_46 hf dJ12_ensureCapacityInternal_28 (fun v7 hf => ?_)
    refine sj_ishl dJ12_ensureCapacityInternal_31 ?_
    refine sj_cR (rest := [.ref a0]) (fun _ _ _ e => sj_runS (n := 2) (rest := [.ref a0]) (sJ5_copyOf_3 l G v5 (r6 <<< (v7 &&& 31)) h _ _ _ e) rfl rfl q576 q577 q125 q578 (by decide +kernel) rfl ⟨Nat.le_of_ble_eq_true rfl, Nat.le_of_ble_eq_true rfl⟩ rfl (Nat.le_of_ble_eq_true rfl) dJ12_ensureCapacityInternal_32) hf (fun r8 h c hf => ?_)
    refine sj_put (fpJ12_15_46 _ _) hf dJ12_ensureCapacityInternal_35 (fun h hf => ?_)
    exact sj_vret (o := sd_oV) hf rfl rfl rfl dJ12_ensureCapacityInternal_38
/-! java/lang/StringLatin1.canEncode(C)Z -/
abbrev cJ16_canEncode : ByteArray := prog_70_method_3_code
def yJ16_canEncode : MethodName := ⟨RJ16, "canEncode", "(C)Z"⟩
def dkwJ16_canEncode_0 : List UInt8 := [26, 17, 0, 255, 163, 0, 7, 4, 167, 0, 4, 3, 172]
abbrev dktJ16_canEncode_0 : List UInt8 := dkwJ16_canEncode_0 ++ []
theorem dksJ16_canEncode_0 : cJ16_canEncode.data.toList.drop 0 = dktJ16_canEncode_0 := by decide +kernel
theorem dJ16_canEncode_0 : decode cJ16_canEncode 0 = .ok (.iload_n 0, 1) := dk_26 (dk_at dksJ16_canEncode_0 0 rfl rfl)
theorem dJ16_canEncode_1 : decode cJ16_canEncode 1 = .ok (.sipush 255, 3) := dk_17 0 255 (dk_at dksJ16_canEncode_0 1 rfl rfl)
theorem dJ16_canEncode_4 : decode cJ16_canEncode 4 = .ok (.if_icmp .gt 7, 3) := dk_163 0 7 (dk_at dksJ16_canEncode_0 4 rfl rfl)
theorem dJ16_canEncode_7 : decode cJ16_canEncode 7 = .ok (.iconst 1, 1) := dk_4 (dk_at dksJ16_canEncode_0 7 rfl rfl)
theorem dJ16_canEncode_8 : decode cJ16_canEncode 8 = .ok (.goto 4, 3) := dk_167 0 4 (dk_at dksJ16_canEncode_0 8 rfl rfl)
theorem dJ16_canEncode_11 : decode cJ16_canEncode 11 = .ok (.iconst 0, 1) := dk_3 (dk_at dksJ16_canEncode_0 11 rfl rfl)
theorem dJ16_canEncode_12 : decode cJ16_canEncode 12 = .ok (.ireturn, 1) := dk_172 (dk_at dksJ16_canEncode_0 12 rfl rfl)
abbrev mJ16_canEncode : sd_Y := (yJ16_canEncode, cJ16_canEncode, 1, some (.boolean), none)
def fJ16_canEncode (G : sd_G) (a1 : Int32) : sd_M Int32 :=
  if 255 < a1 then (
    sd_ret 0)
  else (
    sd_ret 1)
set_option maxHeartbeats 4000000 in
theorem sJ16_canEncode (l : Launch) (G : sd_G) (a1 : Int32) (h : sd_H) (ρ : Int32) (cT : Nat × Nat) (h2 : sd_H) (hf : fJ16_canEncode G a1 h = some (ρ, cT, h2)) : sd_Met mJ16_canEncode ((l, G), (0, 0), [.int a1], (sd_oI ρ, h2), cT) h := by
  refine sd_entry (plainFor_of_name rfl) rfl (Nat.le_of_ble_eq_true rfl) ?_
  show sd_J mJ16_canEncode ((l, G), (0, 0), [.int a1], (sd_oI ρ, h2), cT) 0 [(0, .int a1)] [] h cT
  unfold fJ16_canEncode at hf
  refine sj_iload_n 0 dJ16_canEncode_0 rfl ?_
  refine sj_sipush (v := 255) dJ16_canEncode_1 (by decide) ?_
  refine sj_icgt 11 hf dJ16_canEncode_4 (by decide) (fun g4 hf => ?_) (fun g4 hf => ?_)
  · refine sj_iconst (v := 0) dJ16_canEncode_11 (by decide) ?_
    exact sj_zretC (o := sd_oI) (ty := .boolean) rfl hf rfl rfl rfl dJ16_canEncode_12
  · refine sj_iconst (v := 1) dJ16_canEncode_7 (by decide) ?_
    refine sj_goto 12 dJ16_canEncode_8 (by decide) ?_
    exact sj_zretC (o := sd_oI) (ty := .boolean) rfl hf rfl rfl rfl dJ16_canEncode_12
/-! java/lang/AbstractStringBuilder.append(C)Ljava/lang/AbstractStringBuilder; -/
abbrev cJ12_append : ByteArray := prog_49_method_31_code
def yJ12_append : MethodName := ⟨RJ12, "append", "(C)Ljava/lang/AbstractStringBuilder;"⟩
def dkwJ12_append_3 : List UInt8 := [181, 0, 79, 27, 184, 0, 197, 42, 176]
abbrev dktJ12_append_3 : List UInt8 := dkwJ12_append_3 ++ []
def dkwJ12_append_2 : List UInt8 := [182, 0, 83, 153, 0, 7, 42, 182, 0, 195, 42, 180, 0, 15, 42, 89, 180, 0, 79, 90, 4, 96]
abbrev dktJ12_append_2 : List UInt8 := dkwJ12_append_2 ++ dktJ12_append_3
def dkwJ12_append_1 : List UInt8 := [42, 180, 0, 15, 42, 89, 180, 0, 79, 90, 4, 96, 181, 0, 79, 27, 145, 84, 167, 0, 33, 42]
abbrev dktJ12_append_1 : List UInt8 := dkwJ12_append_1 ++ dktJ12_append_2
def dkwJ12_append_0 : List UInt8 := [42, 42, 180, 0, 79, 4, 96, 182, 0, 100, 42, 182, 0, 83, 153, 0, 31, 27, 184, 0, 191, 153, 0, 24]
abbrev dktJ12_append_0 : List UInt8 := dkwJ12_append_0 ++ dktJ12_append_1
theorem dksJ12_append_0 : cJ12_append.data.toList.drop 0 = dktJ12_append_0 := by decide +kernel
theorem dksJ12_append_1 : cJ12_append.data.toList.drop 24 = dktJ12_append_1 := dk_seg dksJ12_append_0 24 rfl rfl
theorem dksJ12_append_2 : cJ12_append.data.toList.drop 46 = dktJ12_append_2 := dk_seg dksJ12_append_1 22 rfl rfl
theorem dksJ12_append_3 : cJ12_append.data.toList.drop 68 = dktJ12_append_3 := dk_seg dksJ12_append_2 22 rfl rfl
theorem dJ12_append_0 : decode cJ12_append 0 = .ok (.aload_n 0, 1) := dk_42 (dk_at dksJ12_append_0 0 rfl rfl)
theorem dJ12_append_1 : decode cJ12_append 1 = .ok (.aload_n 0, 1) := dk_42 (dk_at dksJ12_append_0 1 rfl rfl)
theorem dJ12_append_2 : decode cJ12_append 2 = .ok (.getfield 79, 3) := dk_180 0 79 (dk_at dksJ12_append_0 2 rfl rfl)
theorem dJ12_append_5 : decode cJ12_append 5 = .ok (.iconst 1, 1) := dk_4 (dk_at dksJ12_append_0 5 rfl rfl)
theorem dJ12_append_6 : decode cJ12_append 6 = .ok (.iadd, 1) := dk_96 (dk_at dksJ12_append_0 6 rfl rfl)
theorem dJ12_append_7 : decode cJ12_append 7 = .ok (.invokevirtual 100, 3) := dk_182 0 100 (dk_at dksJ12_append_0 7 rfl rfl)
theorem dJ12_append_10 : decode cJ12_append 10 = .ok (.aload_n 0, 1) := dk_42 (dk_at dksJ12_append_0 10 rfl rfl)
theorem dJ12_append_11 : decode cJ12_append 11 = .ok (.invokevirtual 83, 3) := dk_182 0 83 (dk_at dksJ12_append_0 11 rfl rfl)
theorem dJ12_append_14 : decode cJ12_append 14 = .ok (.ifCond .eq 31, 3) := dk_153 0 31 (dk_at dksJ12_append_0 14 rfl rfl)
theorem dJ12_append_17 : decode cJ12_append 17 = .ok (.iload_n 1, 1) := dk_27 (dk_at dksJ12_append_0 17 rfl rfl)
theorem dJ12_append_18 : decode cJ12_append 18 = .ok (.invokestatic 191, 3) := dk_184 0 191 (dk_at dksJ12_append_0 18 rfl rfl)
theorem dJ12_append_21 : decode cJ12_append 21 = .ok (.ifCond .eq 24, 3) := dk_153 0 24 (dk_at dksJ12_append_0 21 rfl rfl)
theorem dJ12_append_24 : decode cJ12_append 24 = .ok (.aload_n 0, 1) := dk_42 (dk_at dksJ12_append_1 0 rfl rfl)
theorem dJ12_append_25 : decode cJ12_append 25 = .ok (.getfield 15, 3) := dk_180 0 15 (dk_at dksJ12_append_1 1 rfl rfl)
theorem dJ12_append_28 : decode cJ12_append 28 = .ok (.aload_n 0, 1) := dk_42 (dk_at dksJ12_append_1 4 rfl rfl)
theorem dJ12_append_29 : decode cJ12_append 29 = .ok (.dup, 1) := dk_89 (dk_at dksJ12_append_1 5 rfl rfl)
theorem dJ12_append_30 : decode cJ12_append 30 = .ok (.getfield 79, 3) := dk_180 0 79 (dk_at dksJ12_append_1 6 rfl rfl)
theorem dJ12_append_33 : decode cJ12_append 33 = .ok (.dup_x1, 1) := dk_90 (dk_at dksJ12_append_1 9 rfl rfl)
theorem dJ12_append_34 : decode cJ12_append 34 = .ok (.iconst 1, 1) := dk_4 (dk_at dksJ12_append_1 10 rfl rfl)
theorem dJ12_append_35 : decode cJ12_append 35 = .ok (.iadd, 1) := dk_96 (dk_at dksJ12_append_1 11 rfl rfl)
theorem dJ12_append_36 : decode cJ12_append 36 = .ok (.putfield 79, 3) := dk_181 0 79 (dk_at dksJ12_append_1 12 rfl rfl)
theorem dJ12_append_39 : decode cJ12_append 39 = .ok (.iload_n 1, 1) := dk_27 (dk_at dksJ12_append_1 15 rfl rfl)
theorem dJ12_append_40 : decode cJ12_append 40 = .ok (.i2b, 1) := dk_145 (dk_at dksJ12_append_1 16 rfl rfl)
theorem dJ12_append_41 : decode cJ12_append 41 = .ok (.bastore, 1) := dk_84 (dk_at dksJ12_append_1 17 rfl rfl)
theorem dJ12_append_42 : decode cJ12_append 42 = .ok (.goto 33, 3) := dk_167 0 33 (dk_at dksJ12_append_1 18 rfl rfl)
theorem dJ12_append_45 : decode cJ12_append 45 = .ok (.aload_n 0, 1) := dk_42 (dk_at dksJ12_append_1 21 rfl rfl)
theorem dJ12_append_46 : decode cJ12_append 46 = .ok (.invokevirtual 83, 3) := dk_182 0 83 (dk_at dksJ12_append_2 0 rfl rfl)
theorem dJ12_append_49 : decode cJ12_append 49 = .ok (.ifCond .eq 7, 3) := dk_153 0 7 (dk_at dksJ12_append_2 3 rfl rfl)
theorem dJ12_append_52 : decode cJ12_append 52 = .ok (.aload_n 0, 1) := dk_42 (dk_at dksJ12_append_2 6 rfl rfl)
theorem dJ12_append_53 : decode cJ12_append 53 = .ok (.invokevirtual 195, 3) := dk_182 0 195 (dk_at dksJ12_append_2 7 rfl rfl)
theorem dJ12_append_56 : decode cJ12_append 56 = .ok (.aload_n 0, 1) := dk_42 (dk_at dksJ12_append_2 10 rfl rfl)
theorem dJ12_append_57 : decode cJ12_append 57 = .ok (.getfield 15, 3) := dk_180 0 15 (dk_at dksJ12_append_2 11 rfl rfl)
theorem dJ12_append_60 : decode cJ12_append 60 = .ok (.aload_n 0, 1) := dk_42 (dk_at dksJ12_append_2 14 rfl rfl)
theorem dJ12_append_61 : decode cJ12_append 61 = .ok (.dup, 1) := dk_89 (dk_at dksJ12_append_2 15 rfl rfl)
theorem dJ12_append_62 : decode cJ12_append 62 = .ok (.getfield 79, 3) := dk_180 0 79 (dk_at dksJ12_append_2 16 rfl rfl)
theorem dJ12_append_65 : decode cJ12_append 65 = .ok (.dup_x1, 1) := dk_90 (dk_at dksJ12_append_2 19 rfl rfl)
theorem dJ12_append_66 : decode cJ12_append 66 = .ok (.iconst 1, 1) := dk_4 (dk_at dksJ12_append_2 20 rfl rfl)
theorem dJ12_append_67 : decode cJ12_append 67 = .ok (.iadd, 1) := dk_96 (dk_at dksJ12_append_2 21 rfl rfl)
theorem dJ12_append_68 : decode cJ12_append 68 = .ok (.putfield 79, 3) := dk_181 0 79 (dk_at dksJ12_append_3 0 rfl rfl)
theorem dJ12_append_71 : decode cJ12_append 71 = .ok (.iload_n 1, 1) := dk_27 (dk_at dksJ12_append_3 3 rfl rfl)
theorem dJ12_append_72 : decode cJ12_append 72 = .ok (.invokestatic 197, 3) := dk_184 0 197 (dk_at dksJ12_append_3 4 rfl rfl)
theorem dJ12_append_75 : decode cJ12_append 75 = .ok (.aload_n 0, 1) := dk_42 (dk_at dksJ12_append_3 7 rfl rfl)
theorem dJ12_append_76 : decode cJ12_append 76 = .ok (.areturn, 1) := dk_176 (dk_at dksJ12_append_3 8 rfl rfl)
theorem fdJ12_79_46 : sd_Fd "java/lang/AbstractStringBuilder" 79 46 3 := ⟨(RJ13, TJ13, 4), "java/lang/AbstractStringBuilder", rfl, by decide, rfl, in_J13, Or.inl rfl, Or.inl q548⟩
theorem fpJ12_79_46 (n d : String) : sd_Fp ⟨"java/lang/AbstractStringBuilder", n, d⟩ 79 46 3 .int := ⟨(RJ13, TJ13, 4), "java/lang/AbstractStringBuilder", tyJ13, rfl, by decide, rfl, in_J13, Or.inl rfl, tyJ13_ok, nmJ13, rfl, Or.inl ⟨rfl, Or.inl q548⟩⟩
abbrev mJ12_append : sd_Y := (yJ12_append, cJ12_append, 2, some (.object "java/lang/AbstractStringBuilder"), none)
def fJ12_append (G : sd_G) (a0 : Nat) (a1 : Int32) : sd_M Nat :=
  sd_bnd (sd_getI G 46 3 a0) fun v1 =>
  sd_bnd (sd_isC G 46 a0) fun _ =>
  sd_bnd (fJ12_ensureCapacityInternal G a0 (v1 + 1)) fun _ =>
  sd_bnd (sd_isC G 46 a0) fun _ =>
  sd_bnd (fJ12_isLatin1 G a0) fun r2 =>
  if r2 = 0 then (
    sd_fail)
  else (
    sd_bnd (fJ16_canEncode G a1) fun r3 =>
    if r3 = 0 then (
      sd_fail)
    else (
      sd_bnd (sd_getR G 46 0 a0) fun v4 =>
      sd_bnd (sd_getI G 46 3 a0) fun v5 =>
      sd_bnd (sd_put 46 3 .int a0 (.int (v5 + 1))) fun _ =>
      sd_bnd (sd_astI 2 v4 v5 (a1.toInt8.toInt32)) fun _ =>
      sd_ret a0))
set_option maxHeartbeats 4000000 in
theorem sJ12_append (l : Launch) (G : sd_G) (a0 : Nat) (a1 : Int32) (h : sd_H) (ρ : Nat) (cT : Nat × Nat) (h2 : sd_H) (hf : fJ12_append G a0 a1 h = some (ρ, cT, h2)) : sd_Met mJ12_append ((l, G), (4, 91), [.ref a0, .int a1], (sd_oR ρ, h2), cT) h := by
  refine sd_entry (plainFor_of_name rfl) rfl (Nat.le_of_ble_eq_true rfl) ?_
  show sd_J mJ12_append ((l, G), (4, 91), [.ref a0, .int a1], (sd_oR ρ, h2), cT) 0 [(0, .ref a0), (1, .int a1)] [] h cT
  unfold fJ12_append at hf
  refine sj_aload_n 0 dJ12_append_0 rfl ?_
  refine sj_aload_n 0 dJ12_append_1 rfl ?_
  refine sj_getI fdJ12_79_46 hf dJ12_append_2 (fun v1 hf => ?_)
  refine sj_iconst (v := 1) dJ12_append_5 (by decide) ?_
  refine sj_iadd dJ12_append_6 ?_
  obtain ⟨fs7, he7, hf⟩ := sd_isC_some hf
  refine sj_cV (rest := []) (fun _ _ _ e => sj_runP (n := 1) (As := [.int (v1 + 1)]) (rest := []) (sJ12_ensureCapacityInternal l G a0 (v1 + 1) h _ _ _ e) he7 rfl rfl rfl q566 q3415 q567 q568 q139 q569 (by decide +kernel) rfl rfl (fun _ z => by cases z) ⟨Nat.le_of_ble_eq_true rfl, Nat.le_of_ble_eq_true rfl⟩ rfl (Nat.le_of_ble_eq_true rfl) dJ12_append_7) hf (fun h c hf => ?_)
  refine sj_aload_n 0 dJ12_append_10 rfl ?_
  obtain ⟨fs11, he11, hf⟩ := sd_isC_some hf
  refine sj_cI (rest := []) (fun _ _ _ e => sj_runU (n := 0) (owner := "java/lang/AbstractStringBuilder") (As := []) (rest := []) (sJ12_isLatin1 l G a0 h _ _ _ e) he11 rfl rfl rfl q586 q588 q589 q587 q139 q590 (Or.inl rfl) (by decide +kernel) rfl rfl (fun _ z => by cases z) ⟨Nat.le_of_ble_eq_true rfl, Nat.le_of_ble_eq_true rfl⟩ rfl (Nat.le_of_ble_eq_true rfl) dJ12_append_11) hf (fun r2 h c hf => ?_)
  refine sj_ifeq 45 hf dJ12_append_14 (by decide) (fun g14 hf => ?_) (fun g14 hf => ?_)
  · cases hf
  · refine sj_iload_n 1 dJ12_append_17 rfl ?_
    refine sj_cI (rest := []) (fun _ _ _ e => sj_runS (n := 1) (rest := []) (sJ16_canEncode l G a1 h _ _ _ e) rfl rfl q591 q592 q143 q593 (by decide +kernel) rfl ⟨Nat.le_of_ble_eq_true rfl, Nat.le_of_ble_eq_true rfl⟩ rfl (Nat.le_of_ble_eq_true rfl) dJ12_append_18) hf (fun r3 h c hf => ?_)
    refine sj_ifeq 45 hf dJ12_append_21 (by decide) (fun g21 hf => ?_) (fun g21 hf => ?_)
    · cases hf
    · refine sj_aload_n 0 dJ12_append_24 rfl ?_
      refine sj_getR fdJ12_15_46 hf dJ12_append_25 (fun v4 hf => ?_)
      refine sj_aload_n 0 dJ12_append_28 rfl ?_
      refine sj_dup dJ12_append_29 rfl ?_
      refine sj_getI fdJ12_79_46 hf dJ12_append_30 (fun v5 hf => ?_)
      refine sj_dup_x1 dJ12_append_33 rfl rfl ?_
      refine sj_iconst (v := 1) dJ12_append_34 (by decide) ?_
      refine sj_iadd dJ12_append_35 ?_
      refine sj_put (fpJ12_79_46 _ _) hf dJ12_append_36 (fun h hf => ?_)
      refine sj_iload_n 1 dJ12_append_39 rfl ?_
      refine sj_i2b dJ12_append_40 ?_
      refine sj_bast hf dJ12_append_41 (fun h hf => ?_)
      refine sj_goto 75 dJ12_append_42 (by decide) ?_
      refine sj_aload_n 0 dJ12_append_75 rfl ?_
      exact sj_aret (o := sd_oR) hf rfl rfl rfl (Or.inl ⟨_, rfl⟩) dJ12_append_76
/-! java/lang/StringBuilder.append(C)Ljava/lang/StringBuilder; -/
abbrev cJ13_append : ByteArray := prog_69_method_14_code
def yJ13_append : MethodName := ⟨RJ13, "append", "(C)Ljava/lang/StringBuilder;"⟩
def dkwJ13_append_0 : List UInt8 := [42, 27, 183, 0, 50, 87, 42, 176]
abbrev dktJ13_append_0 : List UInt8 := dkwJ13_append_0 ++ []
theorem dksJ13_append_0 : cJ13_append.data.toList.drop 0 = dktJ13_append_0 := by decide +kernel
theorem dJ13_append_0 : decode cJ13_append 0 = .ok (.aload_n 0, 1) := dk_42 (dk_at dksJ13_append_0 0 rfl rfl)
theorem dJ13_append_1 : decode cJ13_append 1 = .ok (.iload_n 1, 1) := dk_27 (dk_at dksJ13_append_0 1 rfl rfl)
theorem dJ13_append_2 : decode cJ13_append 2 = .ok (.invokespecial 50, 3) := dk_183 0 50 (dk_at dksJ13_append_0 2 rfl rfl)
theorem dJ13_append_5 : decode cJ13_append 5 = .ok (.pop, 1) := dk_87 (dk_at dksJ13_append_0 5 rfl rfl)
theorem dJ13_append_6 : decode cJ13_append 6 = .ok (.aload_n 0, 1) := dk_42 (dk_at dksJ13_append_0 6 rfl rfl)
theorem dJ13_append_7 : decode cJ13_append 7 = .ok (.areturn, 1) := dk_176 (dk_at dksJ13_append_0 7 rfl rfl)
abbrev mJ13_append : sd_Y := (yJ13_append, cJ13_append, 2, some (.object "java/lang/StringBuilder"), none)
def fJ13_append (G : sd_G) (a0 : Nat) (a1 : Int32) : sd_M Nat :=
  sd_bnd (sd_isC G 46 a0) fun _ =>
  sd_bnd (fJ12_append G a0 a1) fun r1 =>
  sd_ret a0
set_option maxHeartbeats 4000000 in
theorem sJ13_append (l : Launch) (G : sd_G) (a0 : Nat) (a1 : Int32) (h : sd_H) (ρ : Nat) (cT : Nat × Nat) (h2 : sd_H) (hf : fJ13_append G a0 a1 h = some (ρ, cT, h2)) : sd_Met mJ13_append ((l, G), (5, 112), [.ref a0, .int a1], (sd_oR ρ, h2), cT) h := by
  refine sd_entry (plainFor_of_name rfl) rfl (Nat.le_of_ble_eq_true rfl) ?_
  show sd_J mJ13_append ((l, G), (5, 112), [.ref a0, .int a1], (sd_oR ρ, h2), cT) 0 [(0, .ref a0), (1, .int a1)] [] h cT
  unfold fJ13_append at hf
  refine sj_aload_n 0 dJ13_append_0 rfl ?_
  refine sj_iload_n 1 dJ13_append_1 rfl ?_
  obtain ⟨fs2, he2, hf⟩ := sd_isC_some hf
  refine sj_cR (rest := []) (fun _ _ _ e => sj_runSU (n := 1) (As := [.int a1]) (rest := []) (sJ12_append l G a0 a1 h _ _ _ e) he2 rfl rfl rfl rfl q563 q3414 q557 q564 q139 q565 (by decide) (by decide +kernel) rfl rfl (fun _ z => by cases z) ⟨Nat.le_of_ble_eq_true rfl, Nat.le_of_ble_eq_true rfl⟩ rfl (Nat.le_of_ble_eq_true rfl) dJ13_append_2) hf (fun r1 h c hf => ?_)
  refine sj_pop dJ13_append_5 rfl ?_
  refine sj_aload_n 0 dJ13_append_6 rfl ?_
  exact sj_aret (o := sd_oR) hf rfl rfl rfl (Or.inl ⟨_, rfl⟩) dJ13_append_7
/-! java/lang/AbstractStringBuilder.getValue()[B -/
abbrev cJ12_getValue : ByteArray := prog_49_method_64_code
def yJ12_getValue : MethodName := ⟨RJ12, "getValue", "()[B"⟩
theorem dJ12_getValue_0 : decode cJ12_getValue 0 = .ok (.aload_n 0, 1) := by decide +kernel
theorem dJ12_getValue_1 : decode cJ12_getValue 1 = .ok (.getfield 15, 3) := by decide +kernel
theorem dJ12_getValue_4 : decode cJ12_getValue 4 = .ok (.areturn, 1) := by decide +kernel
abbrev mJ12_getValue : sd_Y := (yJ12_getValue, cJ12_getValue, 1, some (.array .byte), none)
def fJ12_getValue (G : sd_G) (a0 : Nat) : sd_M Nat :=
  sd_bnd (sd_getR G 46 0 a0) fun v1 =>
  sd_ret v1
set_option maxHeartbeats 4000000 in
theorem sJ12_getValue (l : Launch) (G : sd_G) (a0 : Nat) (h : sd_H) (ρ : Nat) (cT : Nat × Nat) (h2 : sd_H) (hf : fJ12_getValue G a0 h = some (ρ, cT, h2)) : sd_Met mJ12_getValue ((l, G), (0, 0), [.ref a0], (sd_oR ρ, h2), cT) h := by
  refine sd_entry (plainFor_of_name rfl) rfl (Nat.le_of_ble_eq_true rfl) ?_
  show sd_J mJ12_getValue ((l, G), (0, 0), [.ref a0], (sd_oR ρ, h2), cT) 0 [(0, .ref a0)] [] h cT
  unfold fJ12_getValue at hf
  refine sj_aload_n 0 dJ12_getValue_0 rfl ?_
  refine sj_getR fdJ12_15_46 hf dJ12_getValue_1 (fun v1 hf => ?_)
  exact sj_aret (o := sd_oR) hf rfl rfl rfl (Or.inr ⟨_, rfl⟩) dJ12_getValue_4
/-! java/lang/AbstractStringBuilder.length()I -/
abbrev cJ12_length : ByteArray := prog_49_method_6_code
def yJ12_length : MethodName := ⟨RJ12, "length", "()I"⟩
theorem dJ12_length_0 : decode cJ12_length 0 = .ok (.aload_n 0, 1) := by decide +kernel
theorem dJ12_length_1 : decode cJ12_length 1 = .ok (.getfield 79, 3) := by decide +kernel
theorem dJ12_length_4 : decode cJ12_length 4 = .ok (.ireturn, 1) := by decide +kernel
abbrev mJ12_length : sd_Y := (yJ12_length, cJ12_length, 1, some (.int), none)
def fJ12_length (G : sd_G) (a0 : Nat) : sd_M Int32 :=
  sd_bnd (sd_getI G 46 3 a0) fun v1 =>
  sd_ret v1
set_option maxHeartbeats 4000000 in
theorem sJ12_length (l : Launch) (G : sd_G) (a0 : Nat) (h : sd_H) (ρ : Int32) (cT : Nat × Nat) (h2 : sd_H) (hf : fJ12_length G a0 h = some (ρ, cT, h2)) : sd_Met mJ12_length ((l, G), (0, 0), [.ref a0], (sd_oI ρ, h2), cT) h := by
  refine sd_entry (plainFor_of_name rfl) rfl (Nat.le_of_ble_eq_true rfl) ?_
  show sd_J mJ12_length ((l, G), (0, 0), [.ref a0], (sd_oI ρ, h2), cT) 0 [(0, .ref a0)] [] h cT
  unfold fJ12_length at hf
  refine sj_aload_n 0 dJ12_length_0 rfl ?_
  refine sj_getI fdJ12_79_46 hf dJ12_length_1 (fun v1 hf => ?_)
  exact sj_iret (o := sd_oI) hf rfl rfl rfl dJ12_length_4
/-! java/lang/StringBuilder.length()I -/
abbrev cJ13_length : ByteArray := prog_69_method_93_code
def yJ13_length : MethodName := ⟨RJ13, "length", "()I"⟩
theorem dJ13_length_0 : decode cJ13_length 0 = .ok (.aload_n 0, 1) := by decide +kernel
theorem dJ13_length_1 : decode cJ13_length 1 = .ok (.invokespecial 343, 3) := by decide +kernel
theorem dJ13_length_4 : decode cJ13_length 4 = .ok (.ireturn, 1) := by decide +kernel
abbrev mJ13_length : sd_Y := (yJ13_length, cJ13_length, 1, some (.int), none)
def fJ13_length (G : sd_G) (a0 : Nat) : sd_M Int32 :=
  sd_bnd (sd_isC G 46 a0) fun _ =>
  sd_bnd (fJ12_length G a0) fun r1 =>
  sd_ret r1
set_option maxHeartbeats 4000000 in
theorem sJ13_length (l : Launch) (G : sd_G) (a0 : Nat) (h : sd_H) (ρ : Int32) (cT : Nat × Nat) (h2 : sd_H) (hf : fJ13_length G a0 h = some (ρ, cT, h2)) : sd_Met mJ13_length ((l, G), (1, 20), [.ref a0], (sd_oI ρ, h2), cT) h := by
  refine sd_entry (plainFor_of_name rfl) rfl (Nat.le_of_ble_eq_true rfl) ?_
  show sd_J mJ13_length ((l, G), (1, 20), [.ref a0], (sd_oI ρ, h2), cT) 0 [(0, .ref a0)] [] h cT
  unfold fJ13_length at hf
  refine sj_aload_n 0 dJ13_length_0 rfl ?_
  obtain ⟨fs1, he1, hf⟩ := sd_isC_some hf
  refine sj_cI (rest := []) (fun _ _ _ e => sj_runSU (n := 0) (As := []) (rest := []) (sJ12_length l G a0 h _ _ _ e) he1 rfl rfl rfl rfl q663 q659 q557 q658 q139 q664 (by decide) (by decide +kernel) rfl rfl (fun _ z => by cases z) ⟨Nat.le_of_ble_eq_true rfl, Nat.le_of_ble_eq_true rfl⟩ rfl (Nat.le_of_ble_eq_true rfl) dJ13_length_1) hf (fun r1 h c hf => ?_)
  exact sj_iret (o := sd_oI) hf rfl rfl rfl dJ13_length_4
/-! java/util/Arrays.checkLength(II)V -/
abbrev cJ5_checkLength : ByteArray := prog_82_method_131_code
def yJ5_checkLength : MethodName := ⟨RJ5, "checkLength", "(II)V"⟩
def dkwJ5_checkLength_1 : List UInt8 := [182, 0, 50, 27, 182, 0, 54, 182, 0, 61, 183, 0, 65, 191, 177]
abbrev dktJ5_checkLength_1 : List UInt8 := dkwJ5_checkLength_1 ++ []
def dkwJ5_checkLength_0 : List UInt8 := [27, 26, 162, 0, 35, 187, 0, 43, 89, 187, 0, 45, 89, 183, 0, 47, 26, 182, 0, 54, 19, 1, 81]
abbrev dktJ5_checkLength_0 : List UInt8 := dkwJ5_checkLength_0 ++ dktJ5_checkLength_1
theorem dksJ5_checkLength_0 : cJ5_checkLength.data.toList.drop 0 = dktJ5_checkLength_0 := by decide +kernel
theorem dksJ5_checkLength_1 : cJ5_checkLength.data.toList.drop 23 = dktJ5_checkLength_1 := dk_seg dksJ5_checkLength_0 23 rfl rfl
theorem dJ5_checkLength_0 : decode cJ5_checkLength 0 = .ok (.iload_n 1, 1) := dk_27 (dk_at dksJ5_checkLength_0 0 rfl rfl)
theorem dJ5_checkLength_1 : decode cJ5_checkLength 1 = .ok (.iload_n 0, 1) := dk_26 (dk_at dksJ5_checkLength_0 1 rfl rfl)
theorem dJ5_checkLength_2 : decode cJ5_checkLength 2 = .ok (.if_icmp .ge 35, 3) := dk_162 0 35 (dk_at dksJ5_checkLength_0 2 rfl rfl)
theorem dJ5_checkLength_5 : decode cJ5_checkLength 5 = .ok (.new 43, 3) := dk_187 0 43 (dk_at dksJ5_checkLength_0 5 rfl rfl)
theorem dJ5_checkLength_8 : decode cJ5_checkLength 8 = .ok (.dup, 1) := dk_89 (dk_at dksJ5_checkLength_0 8 rfl rfl)
theorem dJ5_checkLength_9 : decode cJ5_checkLength 9 = .ok (.new 45, 3) := dk_187 0 45 (dk_at dksJ5_checkLength_0 9 rfl rfl)
theorem dJ5_checkLength_12 : decode cJ5_checkLength 12 = .ok (.dup, 1) := dk_89 (dk_at dksJ5_checkLength_0 12 rfl rfl)
theorem dJ5_checkLength_13 : decode cJ5_checkLength 13 = .ok (.invokespecial 47, 3) := dk_183 0 47 (dk_at dksJ5_checkLength_0 13 rfl rfl)
theorem dJ5_checkLength_16 : decode cJ5_checkLength 16 = .ok (.iload_n 0, 1) := dk_26 (dk_at dksJ5_checkLength_0 16 rfl rfl)
theorem dJ5_checkLength_17 : decode cJ5_checkLength 17 = .ok (.invokevirtual 54, 3) := dk_182 0 54 (dk_at dksJ5_checkLength_0 17 rfl rfl)
theorem dJ5_checkLength_20 : decode cJ5_checkLength 20 = .ok (.ldc_w 337, 3) := dk_19 1 81 (dk_at dksJ5_checkLength_0 20 rfl rfl)
theorem dJ5_checkLength_23 : decode cJ5_checkLength 23 = .ok (.invokevirtual 50, 3) := dk_182 0 50 (dk_at dksJ5_checkLength_1 0 rfl rfl)
theorem dJ5_checkLength_26 : decode cJ5_checkLength 26 = .ok (.iload_n 1, 1) := dk_27 (dk_at dksJ5_checkLength_1 3 rfl rfl)
theorem dJ5_checkLength_27 : decode cJ5_checkLength 27 = .ok (.invokevirtual 54, 3) := dk_182 0 54 (dk_at dksJ5_checkLength_1 4 rfl rfl)
theorem dJ5_checkLength_30 : decode cJ5_checkLength 30 = .ok (.invokevirtual 61, 3) := dk_182 0 61 (dk_at dksJ5_checkLength_1 7 rfl rfl)
theorem dJ5_checkLength_33 : decode cJ5_checkLength 33 = .ok (.invokespecial 65, 3) := dk_183 0 65 (dk_at dksJ5_checkLength_1 10 rfl rfl)
theorem dJ5_checkLength_36 : decode cJ5_checkLength 36 = .ok (.athrow, 1) := dk_191 (dk_at dksJ5_checkLength_1 13 rfl rfl)
theorem dJ5_checkLength_37 : decode cJ5_checkLength 37 = .ok (.return_, 1) := dk_177 (dk_at dksJ5_checkLength_1 14 rfl rfl)
abbrev mJ5_checkLength : sd_Y := (yJ5_checkLength, cJ5_checkLength, 2, none, none)
def fJ5_checkLength (G : sd_G) (a1 : Int32) (a2 : Int32) : sd_M Unit :=
  if a1 ≤ a2 then (
    sd_ret ())
  else (
    sd_fail)
set_option maxHeartbeats 4000000 in
theorem sJ5_checkLength (l : Launch) (G : sd_G) (a1 : Int32) (a2 : Int32) (h : sd_H) (ρ : Unit) (cT : Nat × Nat) (h2 : sd_H) (hf : fJ5_checkLength G a1 a2 h = some (ρ, cT, h2)) : sd_Met mJ5_checkLength ((l, G), (0, 0), [.int a1, .int a2], (sd_oV ρ, h2), cT) h := by
  refine sd_entry (plainFor_of_name rfl) rfl (Nat.le_of_ble_eq_true rfl) ?_
  show sd_J mJ5_checkLength ((l, G), (0, 0), [.int a1, .int a2], (sd_oV ρ, h2), cT) 0 [(0, .int a1), (1, .int a2)] [] h cT
  unfold fJ5_checkLength at hf
  refine sj_iload_n 1 dJ5_checkLength_0 rfl ?_
  refine sj_iload_n 0 dJ5_checkLength_1 rfl ?_
  refine sj_icge 37 hf dJ5_checkLength_2 (by decide) (fun g2 hf => ?_) (fun g2 hf => ?_)
  · exact sj_vret (o := sd_oV) hf rfl rfl rfl dJ5_checkLength_37
  · cases hf
/-! java/util/Arrays.copyOfRangeByte([BII)[B -/
abbrev cJ5_copyOfRangeByte : ByteArray := prog_82_method_133_code
def yJ5_copyOfRangeByte : MethodName := ⟨RJ5, "copyOfRangeByte", "([BII)[B"⟩
def dkwJ5_copyOfRangeByte_1 : List UInt8 := [184, 1, 48, 184, 0, 150, 25, 4, 176]
abbrev dktJ5_copyOfRangeByte_1 : List UInt8 := dkwJ5_copyOfRangeByte_1 ++ []
def dkwJ5_copyOfRangeByte_0 : List UInt8 := [27, 28, 184, 1, 87, 28, 27, 100, 62, 29, 188, 8, 58, 4, 42, 27, 25, 4, 3, 42, 190, 27, 100, 29]
abbrev dktJ5_copyOfRangeByte_0 : List UInt8 := dkwJ5_copyOfRangeByte_0 ++ dktJ5_copyOfRangeByte_1
theorem dksJ5_copyOfRangeByte_0 : cJ5_copyOfRangeByte.data.toList.drop 0 = dktJ5_copyOfRangeByte_0 := by decide +kernel
theorem dksJ5_copyOfRangeByte_1 : cJ5_copyOfRangeByte.data.toList.drop 24 = dktJ5_copyOfRangeByte_1 := dk_seg dksJ5_copyOfRangeByte_0 24 rfl rfl
theorem dJ5_copyOfRangeByte_0 : decode cJ5_copyOfRangeByte 0 = .ok (.iload_n 1, 1) := dk_27 (dk_at dksJ5_copyOfRangeByte_0 0 rfl rfl)
theorem dJ5_copyOfRangeByte_1 : decode cJ5_copyOfRangeByte 1 = .ok (.iload_n 2, 1) := dk_28 (dk_at dksJ5_copyOfRangeByte_0 1 rfl rfl)
theorem dJ5_copyOfRangeByte_2 : decode cJ5_copyOfRangeByte 2 = .ok (.invokestatic 343, 3) := dk_184 1 87 (dk_at dksJ5_copyOfRangeByte_0 2 rfl rfl)
theorem dJ5_copyOfRangeByte_5 : decode cJ5_copyOfRangeByte 5 = .ok (.iload_n 2, 1) := dk_28 (dk_at dksJ5_copyOfRangeByte_0 5 rfl rfl)
theorem dJ5_copyOfRangeByte_6 : decode cJ5_copyOfRangeByte 6 = .ok (.iload_n 1, 1) := dk_27 (dk_at dksJ5_copyOfRangeByte_0 6 rfl rfl)
theorem dJ5_copyOfRangeByte_7 : decode cJ5_copyOfRangeByte 7 = .ok (.isub, 1) := dk_100 (dk_at dksJ5_copyOfRangeByte_0 7 rfl rfl)
theorem dJ5_copyOfRangeByte_8 : decode cJ5_copyOfRangeByte 8 = .ok (.istore_n 3, 1) := dk_62 (dk_at dksJ5_copyOfRangeByte_0 8 rfl rfl)
theorem dJ5_copyOfRangeByte_9 : decode cJ5_copyOfRangeByte 9 = .ok (.iload_n 3, 1) := dk_29 (dk_at dksJ5_copyOfRangeByte_0 9 rfl rfl)
theorem dJ5_copyOfRangeByte_10 : decode cJ5_copyOfRangeByte 10 = .ok (.newarray .byte, 2) := dk_188_8 (dk_at dksJ5_copyOfRangeByte_0 10 rfl rfl)
theorem dJ5_copyOfRangeByte_12 : decode cJ5_copyOfRangeByte 12 = .ok (.astore 4, 2) := dk_58 4 (dk_at dksJ5_copyOfRangeByte_0 12 rfl rfl)
theorem dJ5_copyOfRangeByte_14 : decode cJ5_copyOfRangeByte 14 = .ok (.aload_n 0, 1) := dk_42 (dk_at dksJ5_copyOfRangeByte_0 14 rfl rfl)
theorem dJ5_copyOfRangeByte_15 : decode cJ5_copyOfRangeByte 15 = .ok (.iload_n 1, 1) := dk_27 (dk_at dksJ5_copyOfRangeByte_0 15 rfl rfl)
theorem dJ5_copyOfRangeByte_16 : decode cJ5_copyOfRangeByte 16 = .ok (.aload 4, 2) := dk_25 4 (dk_at dksJ5_copyOfRangeByte_0 16 rfl rfl)
theorem dJ5_copyOfRangeByte_18 : decode cJ5_copyOfRangeByte 18 = .ok (.iconst 0, 1) := dk_3 (dk_at dksJ5_copyOfRangeByte_0 18 rfl rfl)
theorem dJ5_copyOfRangeByte_19 : decode cJ5_copyOfRangeByte 19 = .ok (.aload_n 0, 1) := dk_42 (dk_at dksJ5_copyOfRangeByte_0 19 rfl rfl)
theorem dJ5_copyOfRangeByte_20 : decode cJ5_copyOfRangeByte 20 = .ok (.arraylength, 1) := dk_190 (dk_at dksJ5_copyOfRangeByte_0 20 rfl rfl)
theorem dJ5_copyOfRangeByte_21 : decode cJ5_copyOfRangeByte 21 = .ok (.iload_n 1, 1) := dk_27 (dk_at dksJ5_copyOfRangeByte_0 21 rfl rfl)
theorem dJ5_copyOfRangeByte_22 : decode cJ5_copyOfRangeByte 22 = .ok (.isub, 1) := dk_100 (dk_at dksJ5_copyOfRangeByte_0 22 rfl rfl)
theorem dJ5_copyOfRangeByte_23 : decode cJ5_copyOfRangeByte 23 = .ok (.iload_n 3, 1) := dk_29 (dk_at dksJ5_copyOfRangeByte_0 23 rfl rfl)
theorem dJ5_copyOfRangeByte_24 : decode cJ5_copyOfRangeByte 24 = .ok (.invokestatic 304, 3) := dk_184 1 48 (dk_at dksJ5_copyOfRangeByte_1 0 rfl rfl)
theorem dJ5_copyOfRangeByte_27 : decode cJ5_copyOfRangeByte 27 = .ok (.invokestatic 150, 3) := dk_184 0 150 (dk_at dksJ5_copyOfRangeByte_1 3 rfl rfl)
theorem dJ5_copyOfRangeByte_30 : decode cJ5_copyOfRangeByte 30 = .ok (.aload 4, 2) := dk_25 4 (dk_at dksJ5_copyOfRangeByte_1 6 rfl rfl)
theorem dJ5_copyOfRangeByte_32 : decode cJ5_copyOfRangeByte 32 = .ok (.areturn, 1) := dk_176 (dk_at dksJ5_copyOfRangeByte_1 8 rfl rfl)
abbrev mJ5_copyOfRangeByte : sd_Y := (yJ5_copyOfRangeByte, cJ5_copyOfRangeByte, 5, some (.array .byte), none)
def fJ5_copyOfRangeByte (G : sd_G) (a1 : Nat) (a2 : Int32) (a3 : Int32) : sd_M Nat :=
  sd_bnd (fJ5_checkLength G a2 a3) fun _ =>
  sd_bnd (sd_ret (a3 - a2)) fun x1 =>
  sd_bnd (sd_newI 2 x1) fun o2 =>
  sd_bnd (sd_alen G a1) fun v3 =>
  sd_bnd (fJ4_min G (v3 - a2) x1) fun r4 =>
  sd_bnd (sd_cpI G 2 a1 a2 o2 0 r4) fun _ =>
  sd_ret o2
set_option maxHeartbeats 4000000 in
theorem sJ5_copyOfRangeByte (l : Launch) (G : sd_G) (a1 : Nat) (a2 : Int32) (a3 : Int32) (h : sd_H) (ρ : Nat) (cT : Nat × Nat) (h2 : sd_H) (hf : fJ5_copyOfRangeByte G a1 a2 a3 h = some (ρ, cT, h2)) : sd_Met mJ5_copyOfRangeByte ((l, G), (1, 21), [.ref a1, .int a2, .int a3], (sd_oR ρ, h2), cT) h := by
  refine sd_entry (plainFor_of_name rfl) rfl (Nat.le_of_ble_eq_true rfl) ?_
  show sd_J mJ5_copyOfRangeByte ((l, G), (1, 21), [.ref a1, .int a2, .int a3], (sd_oR ρ, h2), cT) 0 [(0, .ref a1), (1, .int a2), (2, .int a3)] [] h cT
  unfold fJ5_copyOfRangeByte at hf
  refine sj_iload_n 1 dJ5_copyOfRangeByte_0 rfl ?_
  refine sj_iload_n 2 dJ5_copyOfRangeByte_1 rfl ?_
  refine sj_cV (rest := []) (fun _ _ _ e => sj_runS (n := 2) (rest := []) (sJ5_checkLength l G a2 a3 h _ _ _ e) rfl rfl q672 q673 q125 q674 (by decide +kernel) rfl ⟨Nat.le_of_ble_eq_true rfl, Nat.le_of_ble_eq_true rfl⟩ rfl (Nat.le_of_ble_eq_true rfl) dJ5_copyOfRangeByte_2) hf (fun h c hf => ?_)
  refine sj_iload_n 2 dJ5_copyOfRangeByte_5 rfl ?_
  refine sj_iload_n 1 dJ5_copyOfRangeByte_6 rfl ?_
  refine sj_isub dJ5_copyOfRangeByte_7 ?_
  refine sj_nameI hf (fun x1 hf => ?_)
  refine sj_istore_n [(3, .int x1), (0, .ref a1), (1, .int a2), (2, .int a3)] dJ5_copyOfRangeByte_8 (by decide) rfl ?_
  refine sj_iload_n 0 dJ5_copyOfRangeByte_9 rfl ?_
  refine sj_newI (atype := .byte) q205 rfl rfl (by decide) sd_p2 hf dJ5_copyOfRangeByte_10 (fun o2 h c hf => ?_)
  refine sj_astore [(4, .ref o2), (3, .int x1), (0, .ref a1), (1, .int a2), (2, .int a3)] dJ5_copyOfRangeByte_12 (by decide) rfl ?_
  refine sj_aload_n 2 dJ5_copyOfRangeByte_14 rfl ?_
  refine sj_iload_n 3 dJ5_copyOfRangeByte_15 rfl ?_
  refine sj_aload 0 dJ5_copyOfRangeByte_16 rfl ?_
  refine sj_iconst (v := 0) dJ5_copyOfRangeByte_18 (by decide) ?_
  refine sj_aload_n 2 dJ5_copyOfRangeByte_19 rfl ?_
  refine sj_alen hf dJ5_copyOfRangeByte_20 (fun v3 hf => ?_)
  refine sj_iload_n 3 dJ5_copyOfRangeByte_21 rfl ?_
  refine sj_isub dJ5_copyOfRangeByte_22 ?_
  refine sj_iload_n 1 dJ5_copyOfRangeByte_23 rfl ?_
  refine sj_cI (rest := [.int 0, .ref o2, .int a2, .ref a1]) (fun _ _ _ e => sj_runS (n := 2) (rest := [.int 0, .ref o2, .int a2, .ref a1]) (sJ4_min l G (v3 - a2) x1 h _ _ _ e) rfl rfl q431 q432 q124 q433 (by decide +kernel) rfl ⟨Nat.le_of_ble_eq_true rfl, Nat.le_of_ble_eq_true rfl⟩ rfl (Nat.le_of_ble_eq_true rfl) dJ5_copyOfRangeByte_24) hf (fun r4 h c hf => ?_)
  refine sj_cpI q434 (Nat.le_of_ble_eq_true rfl) (Nat.le_of_ble_eq_true rfl) hf dJ5_copyOfRangeByte_27 (fun h hf => ?_)
  refine sj_aload 0 dJ5_copyOfRangeByte_30 rfl ?_
  exact sj_aret (o := sd_oR) hf rfl rfl rfl (Or.inr ⟨_, rfl⟩) dJ5_copyOfRangeByte_32
/-! java/util/Arrays.copyOfRange([BII)[B -/
abbrev cJ5_copyOfRange : ByteArray := prog_82_method_132_code
def yJ5_copyOfRange : MethodName := ⟨RJ5, "copyOfRange", "([BII)[B"⟩
def dkwJ5_copyOfRange_1 : List UInt8 := [176]
abbrev dktJ5_copyOfRange_1 : List UInt8 := dkwJ5_copyOfRange_1 ++ []
def dkwJ5_copyOfRange_0 : List UInt8 := [27, 154, 0, 9, 28, 42, 190, 159, 0, 10, 42, 27, 28, 184, 1, 83, 176, 42, 182, 1, 54, 192, 1, 55]
abbrev dktJ5_copyOfRange_0 : List UInt8 := dkwJ5_copyOfRange_0 ++ dktJ5_copyOfRange_1
theorem dksJ5_copyOfRange_0 : cJ5_copyOfRange.data.toList.drop 0 = dktJ5_copyOfRange_0 := by decide +kernel
theorem dksJ5_copyOfRange_1 : cJ5_copyOfRange.data.toList.drop 24 = dktJ5_copyOfRange_1 := dk_seg dksJ5_copyOfRange_0 24 rfl rfl
theorem dJ5_copyOfRange_0 : decode cJ5_copyOfRange 0 = .ok (.iload_n 1, 1) := dk_27 (dk_at dksJ5_copyOfRange_0 0 rfl rfl)
theorem dJ5_copyOfRange_1 : decode cJ5_copyOfRange 1 = .ok (.ifCond .ne 9, 3) := dk_154 0 9 (dk_at dksJ5_copyOfRange_0 1 rfl rfl)
theorem dJ5_copyOfRange_4 : decode cJ5_copyOfRange 4 = .ok (.iload_n 2, 1) := dk_28 (dk_at dksJ5_copyOfRange_0 4 rfl rfl)
theorem dJ5_copyOfRange_5 : decode cJ5_copyOfRange 5 = .ok (.aload_n 0, 1) := dk_42 (dk_at dksJ5_copyOfRange_0 5 rfl rfl)
theorem dJ5_copyOfRange_6 : decode cJ5_copyOfRange 6 = .ok (.arraylength, 1) := dk_190 (dk_at dksJ5_copyOfRange_0 6 rfl rfl)
theorem dJ5_copyOfRange_7 : decode cJ5_copyOfRange 7 = .ok (.if_icmp .eq 10, 3) := dk_159 0 10 (dk_at dksJ5_copyOfRange_0 7 rfl rfl)
theorem dJ5_copyOfRange_10 : decode cJ5_copyOfRange 10 = .ok (.aload_n 0, 1) := dk_42 (dk_at dksJ5_copyOfRange_0 10 rfl rfl)
theorem dJ5_copyOfRange_11 : decode cJ5_copyOfRange 11 = .ok (.iload_n 1, 1) := dk_27 (dk_at dksJ5_copyOfRange_0 11 rfl rfl)
theorem dJ5_copyOfRange_12 : decode cJ5_copyOfRange 12 = .ok (.iload_n 2, 1) := dk_28 (dk_at dksJ5_copyOfRange_0 12 rfl rfl)
theorem dJ5_copyOfRange_13 : decode cJ5_copyOfRange 13 = .ok (.invokestatic 339, 3) := dk_184 1 83 (dk_at dksJ5_copyOfRange_0 13 rfl rfl)
theorem dJ5_copyOfRange_16 : decode cJ5_copyOfRange 16 = .ok (.areturn, 1) := dk_176 (dk_at dksJ5_copyOfRange_0 16 rfl rfl)
theorem dJ5_copyOfRange_17 : decode cJ5_copyOfRange 17 = .ok (.aload_n 0, 1) := dk_42 (dk_at dksJ5_copyOfRange_0 17 rfl rfl)
theorem dJ5_copyOfRange_18 : decode cJ5_copyOfRange 18 = .ok (.invokevirtual 310, 3) := dk_182 1 54 (dk_at dksJ5_copyOfRange_0 18 rfl rfl)
theorem dJ5_copyOfRange_21 : decode cJ5_copyOfRange 21 = .ok (.checkcast 311, 3) := dk_192 1 55 (dk_at dksJ5_copyOfRange_0 21 rfl rfl)
theorem dJ5_copyOfRange_24 : decode cJ5_copyOfRange 24 = .ok (.areturn, 1) := dk_176 (dk_at dksJ5_copyOfRange_1 0 rfl rfl)
abbrev mJ5_copyOfRange : sd_Y := (yJ5_copyOfRange, cJ5_copyOfRange, 3, some (.array .byte), none)
def fJ5_copyOfRange (G : sd_G) (a1 : Nat) (a2 : Int32) (a3 : Int32) : sd_M Nat :=
  if a2 = 0 then (
    sd_bnd (sd_alen G a1) fun v2 =>
    if a3 = v2 then (
      sd_bnd (sd_clB G a1) fun o3 =>
      sd_bnd (sd_isA G 2 o3) fun _ =>
      sd_ret o3)
    else (
      sd_bnd (fJ5_copyOfRangeByte G a1 a2 a3) fun r4 =>
      sd_ret r4))
  else (
    sd_bnd (fJ5_copyOfRangeByte G a1 a2 a3) fun r1 =>
    sd_ret r1)
set_option maxHeartbeats 4000000 in
theorem sJ5_copyOfRange (l : Launch) (G : sd_G) (a1 : Nat) (a2 : Int32) (a3 : Int32) (h : sd_H) (ρ : Nat) (cT : Nat × Nat) (h2 : sd_H) (hf : fJ5_copyOfRange G a1 a2 a3 h = some (ρ, cT, h2)) : sd_Met mJ5_copyOfRange ((l, G), (2, 45), [.ref a1, .int a2, .int a3], (sd_oR ρ, h2), cT) h := by
  refine sd_entry (plainFor_of_name rfl) rfl (Nat.le_of_ble_eq_true rfl) ?_
  show sd_J mJ5_copyOfRange ((l, G), (2, 45), [.ref a1, .int a2, .int a3], (sd_oR ρ, h2), cT) 0 [(0, .ref a1), (1, .int a2), (2, .int a3)] [] h cT
  unfold fJ5_copyOfRange at hf
  refine sj_iload_n 1 dJ5_copyOfRange_0 rfl ?_
  refine sj_ifne 10 hf dJ5_copyOfRange_1 (by decide) (fun g1 hf => ?_) (fun g1 hf => ?_)
  · refine sj_aload_n 0 dJ5_copyOfRange_10 rfl ?_
    refine sj_iload_n 1 dJ5_copyOfRange_11 rfl ?_
    refine sj_iload_n 2 dJ5_copyOfRange_12 rfl ?_
    refine sj_cR (rest := []) (fun _ _ _ e => sj_runS (n := 3) (rest := []) (sJ5_copyOfRangeByte l G a1 a2 a3 h _ _ _ e) rfl rfl q669 q670 q125 q671 (by decide +kernel) rfl ⟨Nat.le_of_ble_eq_true rfl, Nat.le_of_ble_eq_true rfl⟩ rfl (Nat.le_of_ble_eq_true rfl) dJ5_copyOfRange_13) hf (fun r1 h c hf => ?_)
    exact sj_aret (o := sd_oR) hf rfl rfl rfl (Or.inr ⟨_, rfl⟩) dJ5_copyOfRange_16
  · refine sj_iload_n 2 dJ5_copyOfRange_4 rfl ?_
    refine sj_aload_n 0 dJ5_copyOfRange_5 rfl ?_
    refine sj_alen hf dJ5_copyOfRange_6 (fun v2 hf => ?_)
    refine sj_iceq 17 hf dJ5_copyOfRange_7 (by decide) (fun g7 hf => ?_) (fun g7 hf => ?_)
    · refine sj_aload_n 0 dJ5_copyOfRange_17 rfl ?_
      refine sj_clone q579 q580 q581 q582 q583 q584 (Nat.le_of_ble_eq_true rfl) (Nat.le_of_ble_eq_true rfl) hf dJ5_copyOfRange_18 (fun o3 h c hf => ?_)
      refine sj_castA sd_nmB hf q585 dJ5_copyOfRange_21 (fun hf => ?_)
      exact sj_aret (o := sd_oR) hf rfl rfl rfl (Or.inr ⟨_, rfl⟩) dJ5_copyOfRange_24
    · refine sj_aload_n 0 dJ5_copyOfRange_10 rfl ?_
      refine sj_iload_n 1 dJ5_copyOfRange_11 rfl ?_
      refine sj_iload_n 2 dJ5_copyOfRange_12 rfl ?_
      refine sj_cR (rest := []) (fun _ _ _ e => sj_runS (n := 3) (rest := []) (sJ5_copyOfRangeByte l G a1 a2 a3 h _ _ _ e) rfl rfl q669 q670 q125 q671 (by decide +kernel) rfl ⟨Nat.le_of_ble_eq_true rfl, Nat.le_of_ble_eq_true rfl⟩ rfl (Nat.le_of_ble_eq_true rfl) dJ5_copyOfRange_13) hf (fun r4 h c hf => ?_)
      exact sj_aret (o := sd_oR) hf rfl rfl rfl (Or.inr ⟨_, rfl⟩) dJ5_copyOfRange_16
/-! java/lang/String.<init>(Ljava/lang/AbstractStringBuilder;Ljava/lang/Void;)V -/
abbrev cJ14_init_2 : ByteArray := prog_68_method_150_code
def yJ14_init_2 : MethodName := ⟨RJ14, "<init>", "(Ljava/lang/AbstractStringBuilder;Ljava/lang/Void;)V"⟩
def dkwJ14_init_2_4 : List UInt8 := [181, 0, 9, 177]
abbrev dktJ14_init_2_4 : List UInt8 := dkwJ14_init_2_4 ++ []
def dkwJ14_init_2_3 : List UInt8 := [184, 0, 47, 181, 0, 15, 177, 42, 4, 181, 0, 15, 42, 45, 3, 21, 4, 4, 120, 184, 0, 54]
abbrev dktJ14_init_2_3 : List UInt8 := dkwJ14_init_2_3 ++ dktJ14_init_2_4
def dkwJ14_init_2_2 : List UInt8 := [180, 4, 24, 153, 0, 28, 42, 45, 3, 21, 4, 184, 4, 27, 181, 0, 9, 42, 42, 180, 0, 9, 21, 4]
abbrev dktJ14_init_2_2 : List UInt8 := dkwJ14_init_2_2 ++ dktJ14_init_2_3
def dkwJ14_init_2_1 : List UInt8 := [181, 0, 15, 42, 45, 3, 21, 4, 184, 0, 54, 181, 0, 9, 167, 0, 59, 178, 0, 38, 153, 0, 35, 43]
abbrev dktJ14_init_2_1 : List UInt8 := dkwJ14_init_2_1 ++ dktJ14_init_2_2
def dkwJ14_init_2_0 : List UInt8 := [42, 183, 0, 1, 43, 182, 2, 40, 78, 43, 182, 2, 37, 54, 4, 43, 182, 4, 23, 153, 0, 22, 42, 3]
abbrev dktJ14_init_2_0 : List UInt8 := dkwJ14_init_2_0 ++ dktJ14_init_2_1
theorem dksJ14_init_2_0 : cJ14_init_2.data.toList.drop 0 = dktJ14_init_2_0 := by decide +kernel
theorem dksJ14_init_2_1 : cJ14_init_2.data.toList.drop 24 = dktJ14_init_2_1 := dk_seg dksJ14_init_2_0 24 rfl rfl
theorem dksJ14_init_2_2 : cJ14_init_2.data.toList.drop 48 = dktJ14_init_2_2 := dk_seg dksJ14_init_2_1 24 rfl rfl
theorem dksJ14_init_2_3 : cJ14_init_2.data.toList.drop 72 = dktJ14_init_2_3 := dk_seg dksJ14_init_2_2 24 rfl rfl
theorem dksJ14_init_2_4 : cJ14_init_2.data.toList.drop 94 = dktJ14_init_2_4 := dk_seg dksJ14_init_2_3 22 rfl rfl
theorem dJ14_init_2_0 : decode cJ14_init_2 0 = .ok (.aload_n 0, 1) := dk_42 (dk_at dksJ14_init_2_0 0 rfl rfl)
theorem dJ14_init_2_1 : decode cJ14_init_2 1 = .ok (.invokespecial 1, 3) := dk_183 0 1 (dk_at dksJ14_init_2_0 1 rfl rfl)
theorem dJ14_init_2_4 : decode cJ14_init_2 4 = .ok (.aload_n 1, 1) := dk_43 (dk_at dksJ14_init_2_0 4 rfl rfl)
theorem dJ14_init_2_5 : decode cJ14_init_2 5 = .ok (.invokevirtual 552, 3) := dk_182 2 40 (dk_at dksJ14_init_2_0 5 rfl rfl)
theorem dJ14_init_2_8 : decode cJ14_init_2 8 = .ok (.astore_n 3, 1) := dk_78 (dk_at dksJ14_init_2_0 8 rfl rfl)
theorem dJ14_init_2_9 : decode cJ14_init_2 9 = .ok (.aload_n 1, 1) := dk_43 (dk_at dksJ14_init_2_0 9 rfl rfl)
theorem dJ14_init_2_10 : decode cJ14_init_2 10 = .ok (.invokevirtual 549, 3) := dk_182 2 37 (dk_at dksJ14_init_2_0 10 rfl rfl)
theorem dJ14_init_2_13 : decode cJ14_init_2 13 = .ok (.istore 4, 2) := dk_54 4 (dk_at dksJ14_init_2_0 13 rfl rfl)
theorem dJ14_init_2_15 : decode cJ14_init_2 15 = .ok (.aload_n 1, 1) := dk_43 (dk_at dksJ14_init_2_0 15 rfl rfl)
theorem dJ14_init_2_16 : decode cJ14_init_2 16 = .ok (.invokevirtual 1047, 3) := dk_182 4 23 (dk_at dksJ14_init_2_0 16 rfl rfl)
theorem dJ14_init_2_19 : decode cJ14_init_2 19 = .ok (.ifCond .eq 22, 3) := dk_153 0 22 (dk_at dksJ14_init_2_0 19 rfl rfl)
theorem dJ14_init_2_22 : decode cJ14_init_2 22 = .ok (.aload_n 0, 1) := dk_42 (dk_at dksJ14_init_2_0 22 rfl rfl)
theorem dJ14_init_2_23 : decode cJ14_init_2 23 = .ok (.iconst 0, 1) := dk_3 (dk_at dksJ14_init_2_0 23 rfl rfl)
theorem dJ14_init_2_24 : decode cJ14_init_2 24 = .ok (.putfield 15, 3) := dk_181 0 15 (dk_at dksJ14_init_2_1 0 rfl rfl)
theorem dJ14_init_2_27 : decode cJ14_init_2 27 = .ok (.aload_n 0, 1) := dk_42 (dk_at dksJ14_init_2_1 3 rfl rfl)
theorem dJ14_init_2_28 : decode cJ14_init_2 28 = .ok (.aload_n 3, 1) := dk_45 (dk_at dksJ14_init_2_1 4 rfl rfl)
theorem dJ14_init_2_29 : decode cJ14_init_2 29 = .ok (.iconst 0, 1) := dk_3 (dk_at dksJ14_init_2_1 5 rfl rfl)
theorem dJ14_init_2_30 : decode cJ14_init_2 30 = .ok (.iload 4, 2) := dk_21 4 (dk_at dksJ14_init_2_1 6 rfl rfl)
theorem dJ14_init_2_32 : decode cJ14_init_2 32 = .ok (.invokestatic 54, 3) := dk_184 0 54 (dk_at dksJ14_init_2_1 8 rfl rfl)
theorem dJ14_init_2_35 : decode cJ14_init_2 35 = .ok (.putfield 9, 3) := dk_181 0 9 (dk_at dksJ14_init_2_1 11 rfl rfl)
theorem dJ14_init_2_38 : decode cJ14_init_2 38 = .ok (.goto 59, 3) := dk_167 0 59 (dk_at dksJ14_init_2_1 14 rfl rfl)
theorem dJ14_init_2_41 : decode cJ14_init_2 41 = .ok (.getstatic 38, 3) := dk_178 0 38 (dk_at dksJ14_init_2_1 17 rfl rfl)
theorem dJ14_init_2_44 : decode cJ14_init_2 44 = .ok (.ifCond .eq 35, 3) := dk_153 0 35 (dk_at dksJ14_init_2_1 20 rfl rfl)
theorem dJ14_init_2_47 : decode cJ14_init_2 47 = .ok (.aload_n 1, 1) := dk_43 (dk_at dksJ14_init_2_1 23 rfl rfl)
theorem dJ14_init_2_48 : decode cJ14_init_2 48 = .ok (.getfield 1048, 3) := dk_180 4 24 (dk_at dksJ14_init_2_2 0 rfl rfl)
theorem dJ14_init_2_51 : decode cJ14_init_2 51 = .ok (.ifCond .eq 28, 3) := dk_153 0 28 (dk_at dksJ14_init_2_2 3 rfl rfl)
theorem dJ14_init_2_54 : decode cJ14_init_2 54 = .ok (.aload_n 0, 1) := dk_42 (dk_at dksJ14_init_2_2 6 rfl rfl)
theorem dJ14_init_2_55 : decode cJ14_init_2 55 = .ok (.aload_n 3, 1) := dk_45 (dk_at dksJ14_init_2_2 7 rfl rfl)
theorem dJ14_init_2_56 : decode cJ14_init_2 56 = .ok (.iconst 0, 1) := dk_3 (dk_at dksJ14_init_2_2 8 rfl rfl)
theorem dJ14_init_2_57 : decode cJ14_init_2 57 = .ok (.iload 4, 2) := dk_21 4 (dk_at dksJ14_init_2_2 9 rfl rfl)
theorem dJ14_init_2_59 : decode cJ14_init_2 59 = .ok (.invokestatic 1051, 3) := dk_184 4 27 (dk_at dksJ14_init_2_2 11 rfl rfl)
theorem dJ14_init_2_62 : decode cJ14_init_2 62 = .ok (.putfield 9, 3) := dk_181 0 9 (dk_at dksJ14_init_2_2 14 rfl rfl)
theorem dJ14_init_2_65 : decode cJ14_init_2 65 = .ok (.aload_n 0, 1) := dk_42 (dk_at dksJ14_init_2_2 17 rfl rfl)
theorem dJ14_init_2_66 : decode cJ14_init_2 66 = .ok (.aload_n 0, 1) := dk_42 (dk_at dksJ14_init_2_2 18 rfl rfl)
theorem dJ14_init_2_67 : decode cJ14_init_2 67 = .ok (.getfield 9, 3) := dk_180 0 9 (dk_at dksJ14_init_2_2 19 rfl rfl)
theorem dJ14_init_2_70 : decode cJ14_init_2 70 = .ok (.iload 4, 2) := dk_21 4 (dk_at dksJ14_init_2_2 22 rfl rfl)
theorem dJ14_init_2_72 : decode cJ14_init_2 72 = .ok (.invokestatic 47, 3) := dk_184 0 47 (dk_at dksJ14_init_2_3 0 rfl rfl)
theorem dJ14_init_2_75 : decode cJ14_init_2 75 = .ok (.putfield 15, 3) := dk_181 0 15 (dk_at dksJ14_init_2_3 3 rfl rfl)
theorem dJ14_init_2_78 : decode cJ14_init_2 78 = .ok (.return_, 1) := dk_177 (dk_at dksJ14_init_2_3 6 rfl rfl)
theorem dJ14_init_2_79 : decode cJ14_init_2 79 = .ok (.aload_n 0, 1) := dk_42 (dk_at dksJ14_init_2_3 7 rfl rfl)
theorem dJ14_init_2_80 : decode cJ14_init_2 80 = .ok (.iconst 1, 1) := dk_4 (dk_at dksJ14_init_2_3 8 rfl rfl)
theorem dJ14_init_2_81 : decode cJ14_init_2 81 = .ok (.putfield 15, 3) := dk_181 0 15 (dk_at dksJ14_init_2_3 9 rfl rfl)
theorem dJ14_init_2_84 : decode cJ14_init_2 84 = .ok (.aload_n 0, 1) := dk_42 (dk_at dksJ14_init_2_3 12 rfl rfl)
theorem dJ14_init_2_85 : decode cJ14_init_2 85 = .ok (.aload_n 3, 1) := dk_45 (dk_at dksJ14_init_2_3 13 rfl rfl)
theorem dJ14_init_2_86 : decode cJ14_init_2 86 = .ok (.iconst 0, 1) := dk_3 (dk_at dksJ14_init_2_3 14 rfl rfl)
theorem dJ14_init_2_87 : decode cJ14_init_2 87 = .ok (.iload 4, 2) := dk_21 4 (dk_at dksJ14_init_2_3 15 rfl rfl)
theorem dJ14_init_2_89 : decode cJ14_init_2 89 = .ok (.iconst 1, 1) := dk_4 (dk_at dksJ14_init_2_3 17 rfl rfl)
theorem dJ14_init_2_90 : decode cJ14_init_2 90 = .ok (.ishl, 1) := dk_120 (dk_at dksJ14_init_2_3 18 rfl rfl)
theorem dJ14_init_2_91 : decode cJ14_init_2 91 = .ok (.invokestatic 54, 3) := dk_184 0 54 (dk_at dksJ14_init_2_3 19 rfl rfl)
theorem dJ14_init_2_94 : decode cJ14_init_2 94 = .ok (.putfield 9, 3) := dk_181 0 9 (dk_at dksJ14_init_2_4 0 rfl rfl)
theorem dJ14_init_2_97 : decode cJ14_init_2 97 = .ok (.return_, 1) := dk_177 (dk_at dksJ14_init_2_4 3 rfl rfl)
theorem fpJ14_init_2_15 : sd_Fp yJ14_init_2 15 45 1 .byte := ⟨(RJ14, TJ14, 4), "java/lang/String", tyJ14, rfl, by decide, rfl, in_J14, Or.inl rfl, tyJ14_ok, nmJ14, rfl, Or.inr ⟨rfl, rfl, rfl, q833⟩⟩
theorem fpJ14_init_2_9 : sd_Fp yJ14_init_2 9 45 0 (.array .byte) := ⟨(RJ14, TJ14, 4), "java/lang/String", tyJ14, rfl, by decide, rfl, in_J14, Or.inl rfl, tyJ14_ok, nmJ14, rfl, Or.inr ⟨rfl, rfl, rfl, q832⟩⟩
abbrev mJ14_init_2 : sd_Y := (yJ14_init_2, cJ14_init_2, 5, none, none)
def fJ14_init_2 (G : sd_G) (a0 : Nat) (a1 : Nat) (a2 : Option Nat) : sd_M Unit :=
  sd_bnd (sd_isC G 46 a1) fun _ =>
  sd_bnd (fJ12_getValue G a1) fun r1 =>
  sd_bnd (sd_isC G 46 a1) fun _ =>
  sd_bnd (fJ13_length G a1) fun r2 =>
  sd_bnd (sd_isC G 46 a1) fun _ =>
  sd_bnd (fJ12_isLatin1 G a1) fun r3 =>
  if r3 = 0 then (
    sd_fail)
  else (
    sd_bnd (sd_put 45 1 .byte a0 (.int 0)) fun _ =>
    sd_bnd (fJ5_copyOfRange G r1 0 r2) fun r4 =>
    sd_bnd (sd_put 45 0 (.array .byte) a0 (.ref r4)) fun _ =>
    sd_ret ())
set_option maxHeartbeats 4000000 in
theorem sJ14_init_2 (l : Launch) (G : sd_G) (a0 : Nat) (a1 : Nat) (a2 : Option Nat) (h : sd_H) (ρ : Unit) (cT : Nat × Nat) (h2 : sd_H) (hf : fJ14_init_2 G a0 a1 a2 h = some (ρ, cT, h2)) : sd_Met mJ14_init_2 ((l, G), (3, 67), [.ref a0, .ref a1, va_rf a2], (sd_oV ρ, h2), cT) h := by
  refine sd_entry (plainFor_of_name rfl) rfl (by cases a2 <;> exact Nat.le_of_ble_eq_true rfl) ?_
  have e0 : lv_args 0 [.ref a0, .ref a1, va_rf a2] = [(0, .ref a0), (1, .ref a1), (2, va_rf a2)] := by simp [lv_args, sd_cat1, Value.category]
  show sd_J mJ14_init_2 ((l, G), (3, 67), [.ref a0, .ref a1, va_rf a2], (sd_oV ρ, h2), cT) 0 (lv_args 0 [.ref a0, .ref a1, va_rf a2]) [] h cT
  rw [e0]
  unfold fJ14_init_2 at hf
  refine sj_aload_n 0 dJ14_init_2_0 rfl ?_
  refine sj_objInit q651 q188 q189 (Nat.le_of_ble_eq_true rfl) (Nat.le_of_ble_eq_true rfl) dJ14_init_2_1 ?_
  refine sj_aload_n 1 dJ14_init_2_4 rfl ?_
  obtain ⟨fs5, he5, hf⟩ := sd_isC_some hf
  refine sj_cR (rest := []) (fun _ _ _ e => sj_runU (n := 0) (owner := "java/lang/AbstractStringBuilder") (As := []) (rest := []) (sJ12_getValue l G a1 h _ _ _ e) he5 rfl rfl rfl q652 q654 q655 q653 q139 q656 (Or.inl rfl) (by decide +kernel) rfl rfl (fun _ z => by cases z) ⟨Nat.le_of_ble_eq_true rfl, Nat.le_of_ble_eq_true rfl⟩ rfl (Nat.le_of_ble_eq_true rfl) dJ14_init_2_5) hf (fun r1 h c hf => ?_)
  refine sj_astore_n [(3, .ref r1), (0, .ref a0), (1, .ref a1), (2, va_rf a2)] dJ14_init_2_8 (by decide) (by cases a2 <;> rfl) ?_
  refine sj_aload_n 2 dJ14_init_2_9 rfl ?_
  obtain ⟨fs10, he10, hf⟩ := sd_isC_some hf
  refine sj_cI (rest := []) (fun _ _ _ e => sj_runU (n := 0) (owner := "java/lang/AbstractStringBuilder") (As := []) (rest := []) (sJ13_length l G a1 h _ _ _ e) he10 rfl rfl rfl q657 q659 q660 q661 q140 q662 (Or.inr (Or.inr ⟨_, _, _, q658, q664⟩)) (by decide +kernel) rfl rfl (fun _ z => by cases z) ⟨Nat.le_of_ble_eq_true rfl, Nat.le_of_ble_eq_true rfl⟩ rfl (Nat.le_of_ble_eq_true rfl) dJ14_init_2_10) hf (fun r2 h c hf => ?_)
  refine sj_istore [(4, .int r2), (3, .ref r1), (0, .ref a0), (1, .ref a1), (2, va_rf a2)] dJ14_init_2_13 (by decide) rfl ?_
  refine sj_aload_n 3 dJ14_init_2_15 rfl ?_
  obtain ⟨fs16, he16, hf⟩ := sd_isC_some hf
  refine sj_cI (rest := []) (fun _ _ _ e => sj_runU (n := 0) (owner := "java/lang/AbstractStringBuilder") (As := []) (rest := []) (sJ12_isLatin1 l G a1 h _ _ _ e) he16 rfl rfl rfl q665 q588 q589 q587 q139 q590 (Or.inl rfl) (by decide +kernel) rfl rfl (fun _ z => by cases z) ⟨Nat.le_of_ble_eq_true rfl, Nat.le_of_ble_eq_true rfl⟩ rfl (Nat.le_of_ble_eq_true rfl) dJ14_init_2_16) hf (fun r3 h c hf => ?_)
  refine sj_ifeq 41 hf dJ14_init_2_19 (by decide) (fun g19 hf => ?_) (fun g19 hf => ?_)
  · cases hf
  · refine sj_aload_n 2 dJ14_init_2_22 rfl ?_
    refine sj_iconst (v := 0) dJ14_init_2_23 (by decide) ?_
    refine sj_put fpJ14_init_2_15 hf dJ14_init_2_24 (fun h hf => ?_)
    refine sj_aload_n 2 dJ14_init_2_27 rfl ?_
    refine sj_aload_n 1 dJ14_init_2_28 rfl ?_
    refine sj_iconst (v := 0) dJ14_init_2_29 (by decide) ?_
    refine sj_iload 0 dJ14_init_2_30 rfl ?_
    refine sj_cR (rest := [.ref a0]) (fun _ _ _ e => sj_runS (n := 3) (rest := [.ref a0]) (sJ5_copyOfRange l G r1 0 r2 h _ _ _ e) rfl rfl q666 q667 q125 q668 (by decide +kernel) rfl ⟨Nat.le_of_ble_eq_true rfl, Nat.le_of_ble_eq_true rfl⟩ rfl (Nat.le_of_ble_eq_true rfl) dJ14_init_2_32) hf (fun r4 h c hf => ?_)
    refine sj_put fpJ14_init_2_9 hf dJ14_init_2_35 (fun h hf => ?_)
    refine sj_goto 97 dJ14_init_2_38 (by decide) ?_
    exact sj_vret (o := sd_oV) hf rfl rfl rfl dJ14_init_2_97
/-! java/lang/String.<init>(Ljava/lang/StringBuilder;)V -/
abbrev cJ14_init : ByteArray := prog_68_method_53_code
def yJ14_init : MethodName := ⟨RJ14, "<init>", "(Ljava/lang/StringBuilder;)V"⟩
def dkwJ14_init_0 : List UInt8 := [42, 43, 1, 183, 1, 233, 177]
abbrev dktJ14_init_0 : List UInt8 := dkwJ14_init_0 ++ []
theorem dksJ14_init_0 : cJ14_init.data.toList.drop 0 = dktJ14_init_0 := by decide +kernel
theorem dJ14_init_0 : decode cJ14_init 0 = .ok (.aload_n 0, 1) := dk_42 (dk_at dksJ14_init_0 0 rfl rfl)
theorem dJ14_init_1 : decode cJ14_init 1 = .ok (.aload_n 1, 1) := dk_43 (dk_at dksJ14_init_0 1 rfl rfl)
theorem dJ14_init_2 : decode cJ14_init 2 = .ok (.aconst_null, 1) := dk_1 (dk_at dksJ14_init_0 2 rfl rfl)
theorem dJ14_init_3 : decode cJ14_init 3 = .ok (.invokespecial 489, 3) := dk_183 1 233 (dk_at dksJ14_init_0 3 rfl rfl)
theorem dJ14_init_6 : decode cJ14_init 6 = .ok (.return_, 1) := dk_177 (dk_at dksJ14_init_0 6 rfl rfl)
abbrev mJ14_init : sd_Y := (yJ14_init, cJ14_init, 2, none, none)
def fJ14_init (G : sd_G) (a0 : Nat) (a1 : Nat) : sd_M Unit :=
  sd_bnd (fJ14_init_2 G a0 a1 none) fun _ =>
  sd_ret ()
set_option maxHeartbeats 4000000 in
theorem sJ14_init (l : Launch) (G : sd_G) (a0 : Nat) (a1 : Nat) (h : sd_H) (ρ : Unit) (cT : Nat × Nat) (h2 : sd_H) (hf : fJ14_init G a0 a1 h = some (ρ, cT, h2)) : sd_Met mJ14_init ((l, G), (4, 91), [.ref a0, .ref a1], (sd_oV ρ, h2), cT) h := by
  refine sd_entry (plainFor_of_name rfl) rfl (Nat.le_of_ble_eq_true rfl) ?_
  show sd_J mJ14_init ((l, G), (4, 91), [.ref a0, .ref a1], (sd_oV ρ, h2), cT) 0 [(0, .ref a0), (1, .ref a1)] [] h cT
  unfold fJ14_init at hf
  refine sj_aload_n 0 dJ14_init_0 rfl ?_
  refine sj_aload_n 1 dJ14_init_1 rfl ?_
  refine sj_null dJ14_init_2 ?_
  refine sj_cV (rest := []) (fun _ _ _ e => sj_runI (n := 2) (a := a0) (As := [.ref a1, va_rf none]) (rest := []) (sJ14_init_2 l G a0 a1 none h _ _ _ e) rfl rfl q648 q649 q141 q650 rfl (by decide +kernel) rfl rfl (fun _ z => by cases z) ⟨Nat.le_of_ble_eq_true rfl, Nat.le_of_ble_eq_true rfl⟩ rfl (Nat.le_of_ble_eq_true rfl) dJ14_init_3) hf (fun h c hf => ?_)
  exact sj_vret (o := sd_oV) hf rfl rfl rfl dJ14_init_6
/-! java/lang/StringBuilder.toString()Ljava/lang/String; -/
abbrev cJ13_toString : ByteArray := prog_69_method_42_code
def yJ13_toString : MethodName := ⟨RJ13, "toString", "()Ljava/lang/String;"⟩
def dkwJ13_toString_0 : List UInt8 := [187, 0, 18, 89, 42, 183, 0, 137, 176]
abbrev dktJ13_toString_0 : List UInt8 := dkwJ13_toString_0 ++ []
theorem dksJ13_toString_0 : cJ13_toString.data.toList.drop 0 = dktJ13_toString_0 := by decide +kernel
theorem dJ13_toString_0 : decode cJ13_toString 0 = .ok (.new 18, 3) := dk_187 0 18 (dk_at dksJ13_toString_0 0 rfl rfl)
theorem dJ13_toString_3 : decode cJ13_toString 3 = .ok (.dup, 1) := dk_89 (dk_at dksJ13_toString_0 3 rfl rfl)
theorem dJ13_toString_4 : decode cJ13_toString 4 = .ok (.aload_n 0, 1) := dk_42 (dk_at dksJ13_toString_0 4 rfl rfl)
theorem dJ13_toString_5 : decode cJ13_toString 5 = .ok (.invokespecial 137, 3) := dk_183 0 137 (dk_at dksJ13_toString_0 5 rfl rfl)
theorem dJ13_toString_8 : decode cJ13_toString 8 = .ok (.areturn, 1) := dk_176 (dk_at dksJ13_toString_0 8 rfl rfl)
theorem fnJ13_18 : sd_Fn "java/lang/StringBuilder" 18 45 4 [.null, .int 0, .int 0, .int 0] := ⟨(RJ14, TJ14, 4), tyJ14, rfl, rfl, in_J14, q643, q644, q141, tyJ14_ok, fun j hj => by revert j; decide⟩
abbrev mJ13_toString : sd_Y := (yJ13_toString, cJ13_toString, 1, some (.object "java/lang/String"), none)
def fJ13_toString (G : sd_G) (a0 : Nat) : sd_M Nat :=
  sd_bnd (sd_new 45 4 [.null, .int 0, .int 0, .int 0]) fun o1 =>
  sd_bnd (fJ14_init G o1 a0) fun _ =>
  sd_ret o1
set_option maxHeartbeats 4000000 in
theorem sJ13_toString (l : Launch) (G : sd_G) (a0 : Nat) (h : sd_H) (ρ : Nat) (cT : Nat × Nat) (h2 : sd_H) (hf : fJ13_toString G a0 h = some (ρ, cT, h2)) : sd_Met mJ13_toString ((l, G), (5, 112), [.ref a0], (sd_oR ρ, h2), cT) h := by
  refine sd_entry (plainFor_of_name rfl) rfl (Nat.le_of_ble_eq_true rfl) ?_
  show sd_J mJ13_toString ((l, G), (5, 112), [.ref a0], (sd_oR ρ, h2), cT) 0 [(0, .ref a0)] [] h cT
  unfold fJ13_toString at hf
  refine sj_new fnJ13_18 hf dJ13_toString_0 (fun o1 h c hf => ?_)
  refine sj_dup dJ13_toString_3 rfl ?_
  refine sj_aload_n 0 dJ13_toString_4 rfl ?_
  refine sj_cV (rest := [.ref o1]) (fun _ _ _ e => sj_runI (n := 1) (a := o1) (As := [.ref a0]) (rest := [.ref o1]) (sJ14_init l G o1 a0 h _ _ _ e) rfl rfl q645 q646 q141 q647 rfl (by decide +kernel) rfl rfl (fun _ z => by cases z) ⟨Nat.le_of_ble_eq_true rfl, Nat.le_of_ble_eq_true rfl⟩ rfl (Nat.le_of_ble_eq_true rfl) dJ13_toString_5) hf (fun h c hf => ?_)
  exact sj_aret (o := sd_oR) hf rfl rfl rfl (Or.inl ⟨_, rfl⟩) dJ13_toString_8
/-! java/lang/StringLatin1.equals([B[B)Z -/
abbrev cJ16_equals : ByteArray := prog_70_method_13_code
def yJ16_equals : MethodName := ⟨RJ16, "equals", "([B[B)Z"⟩
def dkwJ16_equals_1 : List UInt8 := [3, 172, 132, 2, 1, 167, 255, 236, 4, 172, 3, 172]
abbrev dktJ16_equals_1 : List UInt8 := dkwJ16_equals_1 ++ []
def dkwJ16_equals_0 : List UInt8 := [42, 190, 43, 190, 160, 0, 30, 3, 61, 28, 42, 190, 162, 0, 20, 42, 28, 51, 43, 28, 51, 159, 0, 5]
abbrev dktJ16_equals_0 : List UInt8 := dkwJ16_equals_0 ++ dktJ16_equals_1
theorem dksJ16_equals_0 : cJ16_equals.data.toList.drop 0 = dktJ16_equals_0 := by decide +kernel
theorem dksJ16_equals_1 : cJ16_equals.data.toList.drop 24 = dktJ16_equals_1 := dk_seg dksJ16_equals_0 24 rfl rfl
theorem dJ16_equals_0 : decode cJ16_equals 0 = .ok (.aload_n 0, 1) := dk_42 (dk_at dksJ16_equals_0 0 rfl rfl)
theorem dJ16_equals_1 : decode cJ16_equals 1 = .ok (.arraylength, 1) := dk_190 (dk_at dksJ16_equals_0 1 rfl rfl)
theorem dJ16_equals_2 : decode cJ16_equals 2 = .ok (.aload_n 1, 1) := dk_43 (dk_at dksJ16_equals_0 2 rfl rfl)
theorem dJ16_equals_3 : decode cJ16_equals 3 = .ok (.arraylength, 1) := dk_190 (dk_at dksJ16_equals_0 3 rfl rfl)
theorem dJ16_equals_4 : decode cJ16_equals 4 = .ok (.if_icmp .ne 30, 3) := dk_160 0 30 (dk_at dksJ16_equals_0 4 rfl rfl)
theorem dJ16_equals_7 : decode cJ16_equals 7 = .ok (.iconst 0, 1) := dk_3 (dk_at dksJ16_equals_0 7 rfl rfl)
theorem dJ16_equals_8 : decode cJ16_equals 8 = .ok (.istore_n 2, 1) := dk_61 (dk_at dksJ16_equals_0 8 rfl rfl)
theorem dJ16_equals_9 : decode cJ16_equals 9 = .ok (.iload_n 2, 1) := dk_28 (dk_at dksJ16_equals_0 9 rfl rfl)
theorem dJ16_equals_10 : decode cJ16_equals 10 = .ok (.aload_n 0, 1) := dk_42 (dk_at dksJ16_equals_0 10 rfl rfl)
theorem dJ16_equals_11 : decode cJ16_equals 11 = .ok (.arraylength, 1) := dk_190 (dk_at dksJ16_equals_0 11 rfl rfl)
theorem dJ16_equals_12 : decode cJ16_equals 12 = .ok (.if_icmp .ge 20, 3) := dk_162 0 20 (dk_at dksJ16_equals_0 12 rfl rfl)
theorem dJ16_equals_15 : decode cJ16_equals 15 = .ok (.aload_n 0, 1) := dk_42 (dk_at dksJ16_equals_0 15 rfl rfl)
theorem dJ16_equals_16 : decode cJ16_equals 16 = .ok (.iload_n 2, 1) := dk_28 (dk_at dksJ16_equals_0 16 rfl rfl)
theorem dJ16_equals_17 : decode cJ16_equals 17 = .ok (.baload, 1) := dk_51 (dk_at dksJ16_equals_0 17 rfl rfl)
theorem dJ16_equals_18 : decode cJ16_equals 18 = .ok (.aload_n 1, 1) := dk_43 (dk_at dksJ16_equals_0 18 rfl rfl)
theorem dJ16_equals_19 : decode cJ16_equals 19 = .ok (.iload_n 2, 1) := dk_28 (dk_at dksJ16_equals_0 19 rfl rfl)
theorem dJ16_equals_20 : decode cJ16_equals 20 = .ok (.baload, 1) := dk_51 (dk_at dksJ16_equals_0 20 rfl rfl)
theorem dJ16_equals_21 : decode cJ16_equals 21 = .ok (.if_icmp .eq 5, 3) := dk_159 0 5 (dk_at dksJ16_equals_0 21 rfl rfl)
theorem dJ16_equals_24 : decode cJ16_equals 24 = .ok (.iconst 0, 1) := dk_3 (dk_at dksJ16_equals_1 0 rfl rfl)
theorem dJ16_equals_25 : decode cJ16_equals 25 = .ok (.ireturn, 1) := dk_172 (dk_at dksJ16_equals_1 1 rfl rfl)
theorem dJ16_equals_26 : decode cJ16_equals 26 = .ok (.iinc 2 1, 3) := dk_132 2 1 (dk_at dksJ16_equals_1 2 rfl rfl)
theorem dJ16_equals_29 : decode cJ16_equals 29 = .ok (.goto (-20), 3) := dk_167 255 236 (dk_at dksJ16_equals_1 5 rfl rfl)
theorem dJ16_equals_32 : decode cJ16_equals 32 = .ok (.iconst 1, 1) := dk_4 (dk_at dksJ16_equals_1 8 rfl rfl)
theorem dJ16_equals_33 : decode cJ16_equals 33 = .ok (.ireturn, 1) := dk_172 (dk_at dksJ16_equals_1 9 rfl rfl)
theorem dJ16_equals_34 : decode cJ16_equals 34 = .ok (.iconst 0, 1) := dk_3 (dk_at dksJ16_equals_1 10 rfl rfl)
theorem dJ16_equals_35 : decode cJ16_equals 35 = .ok (.ireturn, 1) := dk_172 (dk_at dksJ16_equals_1 11 rfl rfl)
abbrev mJ16_equals : sd_Y := (yJ16_equals, cJ16_equals, 3, some (.boolean), none)
def fJ16_equals_b9 (G : sd_G) (k9 : Nat × Nat × Int32 → sd_M Int32) (w0 : Nat) (w1 : Nat) (w2 : Int32) : sd_M Int32 :=
  sd_bnd (sd_alen G w0) fun v3 =>
  if v3 ≤ w2 then (
    sd_ret 1)
  else (
    sd_bnd (sd_aldI G 2 w0 w2) fun v4 =>
    sd_bnd (sd_aldI G 2 w1 w2) fun v5 =>
    if v4 = v5 then (
      sd_bnd (sd_ret (w2 + 1)) fun x6 =>
      k9 (w0, w1, x6))
    else (
      sd_ret 0))
set_option maxHeartbeats 4000000 in
theorem sJ16_equals_b9 (l : Launch) (G : sd_G) (a1 : Nat) (a2 : Nat) (ρ : Int32) (h2 : sd_H) (cT : Nat × Nat) (k9 : Nat × Nat × Int32 → sd_M Int32) (Hk9 : ∀ (q : Nat × Nat × Int32) (h : sd_H) (c : Nat × Nat), k9 q h = some (ρ, c, h2) → sd_J mJ16_equals ((l, G), (0, 0), [.ref a1, .ref a2], (sd_oI ρ, h2), cT) 9 [(0, .ref q.1), (1, .ref q.2.1), (2, .int q.2.2)] [] h c) (w0 : Nat) (w1 : Nat) (w2 : Int32) (h : sd_H) (c : Nat × Nat) (hf : fJ16_equals_b9 G k9 w0 w1 w2 h = some (ρ, c, h2)) : sd_J mJ16_equals ((l, G), (0, 0), [.ref a1, .ref a2], (sd_oI ρ, h2), cT) 9 [(0, .ref w0), (1, .ref w1), (2, .int w2)] [] h c := by
  unfold fJ16_equals_b9 at hf
  refine sj_iload_n 2 dJ16_equals_9 rfl ?_
  refine sj_aload_n 0 dJ16_equals_10 rfl ?_
  refine sj_alen hf dJ16_equals_11 (fun v3 hf => ?_)
  refine sj_icge 32 hf dJ16_equals_12 (by decide) (fun g12 hf => ?_) (fun g12 hf => ?_)
  · refine sj_iconst (v := 1) dJ16_equals_32 (by decide) ?_
    exact sj_zretC (o := sd_oI) (ty := .boolean) rfl hf rfl rfl rfl dJ16_equals_33
  · refine sj_aload_n 0 dJ16_equals_15 rfl ?_
    refine sj_iload_n 2 dJ16_equals_16 rfl ?_
    refine sj_bald hf dJ16_equals_17 (fun v4 hf => ?_)
    refine sj_aload_n 1 dJ16_equals_18 rfl ?_
    refine sj_iload_n 2 dJ16_equals_19 rfl ?_
    refine sj_bald hf dJ16_equals_20 (fun v5 hf => ?_)
    refine sj_iceq 26 hf dJ16_equals_21 (by decide) (fun g21 hf => ?_) (fun g21 hf => ?_)
    · refine sj_iincN 2 (fun x6 => [(2, .int x6), (0, .ref w0), (1, .ref w1)]) 1 hf dJ16_equals_26 rfl (by decide) (by decide) (fun _ => rfl) (fun x6 hf => ?_)
      refine sj_goto 9 dJ16_equals_29 (by decide) ?_
      exact sj_loc [1, 2, 0] rfl (Hk9 (w0, w1, x6) _ _ hf)
    · refine sj_iconst (v := 0) dJ16_equals_24 (by decide) ?_
      exact sj_zretC (o := sd_oI) (ty := .boolean) rfl hf rfl rfl rfl dJ16_equals_25
theorem sJ16_equals_b9_loop (l : Launch) (G : sd_G) (a1 : Nat) (a2 : Nat) (ρ : Int32) (h2 : sd_H) (cT : Nat × Nat) (n : Nat) : ∀ (q : Nat × Nat × Int32) (h : sd_H) (c : Nat × Nat), sd_loop (fun k s => fJ16_equals_b9 G k s.1 s.2.1 s.2.2) n q h = some (ρ, c, h2) → sd_J mJ16_equals ((l, G), (0, 0), [.ref a1, .ref a2], (sd_oI ρ, h2), cT) 9 [(0, .ref q.1), (1, .ref q.2.1), (2, .int q.2.2)] [] h c := by
  induction n with
  | zero => intro q h c hf; cases hf
  | succ n ih => intro q h c hf; exact sJ16_equals_b9 l G a1 a2 ρ h2 cT _ ih _ _ _ _ _ hf
def fJ16_equals (G : sd_G) (a1 : Nat) (a2 : Nat) : sd_M Int32 :=
  sd_bnd (sd_alen G a1) fun v1 =>
  sd_bnd (sd_alen G a2) fun v2 =>
  if v1 = v2 then (
    sd_loop (fun k s => fJ16_equals_b9 G k s.1 s.2.1 s.2.2) sd_FU (a1, a2, 0))
  else (
    sd_ret 0)
set_option maxHeartbeats 4000000 in
theorem sJ16_equals (l : Launch) (G : sd_G) (a1 : Nat) (a2 : Nat) (h : sd_H) (ρ : Int32) (cT : Nat × Nat) (h2 : sd_H) (hf : fJ16_equals G a1 a2 h = some (ρ, cT, h2)) : sd_Met mJ16_equals ((l, G), (0, 0), [.ref a1, .ref a2], (sd_oI ρ, h2), cT) h := by
  refine sd_entry (plainFor_of_name rfl) rfl (Nat.le_of_ble_eq_true rfl) ?_
  show sd_J mJ16_equals ((l, G), (0, 0), [.ref a1, .ref a2], (sd_oI ρ, h2), cT) 0 [(0, .ref a1), (1, .ref a2)] [] h cT
  unfold fJ16_equals at hf
  refine sj_aload_n 0 dJ16_equals_0 rfl ?_
  refine sj_alen hf dJ16_equals_1 (fun v1 hf => ?_)
  refine sj_aload_n 1 dJ16_equals_2 rfl ?_
  refine sj_alen hf dJ16_equals_3 (fun v2 hf => ?_)
  refine sj_icne 34 hf dJ16_equals_4 (by decide) (fun g4 hf => ?_) (fun g4 hf => ?_)
  · refine sj_iconst (v := 0) dJ16_equals_34 (by decide) ?_
    exact sj_zretC (o := sd_oI) (ty := .boolean) rfl hf rfl rfl rfl dJ16_equals_35
  · refine sj_iconst (v := 0) dJ16_equals_7 (by decide) ?_
    refine sj_istore_n [(2, .int 0), (0, .ref a1), (1, .ref a2)] dJ16_equals_8 (by decide) rfl ?_
    exact sj_loc [1, 2, 0] rfl (sJ16_equals_b9_loop l G a1 a2 ρ h2 cT sd_FU (a1, a2, 0) _ _ hf)
/-! java/lang/String.equals(Ljava/lang/Object;)Z -/
abbrev cJ14_equals : ByteArray := prog_68_method_66_code
def yJ14_equals : MethodName := ⟨RJ14, "equals", "(Ljava/lang/Object;)Z"⟩
def dkwJ14_equals_2 : List UInt8 := [184, 2, 29, 153, 0, 7, 4, 167, 0, 4, 3, 172]
abbrev dktJ14_equals_2 : List UInt8 := dkwJ14_equals_2 ++ []
def dkwJ14_equals_1 : List UInt8 := [153, 0, 14, 42, 180, 0, 15, 44, 180, 0, 15, 160, 0, 21, 42, 180, 0, 9, 44, 180, 0, 9]
abbrev dktJ14_equals_1 : List UInt8 := dkwJ14_equals_1 ++ dktJ14_equals_2
def dkwJ14_equals_0 : List UInt8 := [42, 43, 166, 0, 5, 4, 172, 43, 193, 0, 10, 153, 0, 43, 43, 192, 0, 10, 77, 178, 0, 38]
abbrev dktJ14_equals_0 : List UInt8 := dkwJ14_equals_0 ++ dktJ14_equals_1
theorem dksJ14_equals_0 : cJ14_equals.data.toList.drop 0 = dktJ14_equals_0 := by decide +kernel
theorem dksJ14_equals_1 : cJ14_equals.data.toList.drop 22 = dktJ14_equals_1 := dk_seg dksJ14_equals_0 22 rfl rfl
theorem dksJ14_equals_2 : cJ14_equals.data.toList.drop 44 = dktJ14_equals_2 := dk_seg dksJ14_equals_1 22 rfl rfl
theorem dJ14_equals_0 : decode cJ14_equals 0 = .ok (.aload_n 0, 1) := dk_42 (dk_at dksJ14_equals_0 0 rfl rfl)
theorem dJ14_equals_1 : decode cJ14_equals 1 = .ok (.aload_n 1, 1) := dk_43 (dk_at dksJ14_equals_0 1 rfl rfl)
theorem dJ14_equals_2 : decode cJ14_equals 2 = .ok (.if_acmp .ne 5, 3) := dk_166 0 5 (dk_at dksJ14_equals_0 2 rfl rfl)
theorem dJ14_equals_5 : decode cJ14_equals 5 = .ok (.iconst 1, 1) := dk_4 (dk_at dksJ14_equals_0 5 rfl rfl)
theorem dJ14_equals_6 : decode cJ14_equals 6 = .ok (.ireturn, 1) := dk_172 (dk_at dksJ14_equals_0 6 rfl rfl)
theorem dJ14_equals_7 : decode cJ14_equals 7 = .ok (.aload_n 1, 1) := dk_43 (dk_at dksJ14_equals_0 7 rfl rfl)
theorem dJ14_equals_8 : decode cJ14_equals 8 = .ok (.instanceof 10, 3) := dk_193 0 10 (dk_at dksJ14_equals_0 8 rfl rfl)
theorem dJ14_equals_11 : decode cJ14_equals 11 = .ok (.ifCond .eq 43, 3) := dk_153 0 43 (dk_at dksJ14_equals_0 11 rfl rfl)
theorem dJ14_equals_14 : decode cJ14_equals 14 = .ok (.aload_n 1, 1) := dk_43 (dk_at dksJ14_equals_0 14 rfl rfl)
theorem dJ14_equals_15 : decode cJ14_equals 15 = .ok (.checkcast 10, 3) := dk_192 0 10 (dk_at dksJ14_equals_0 15 rfl rfl)
theorem dJ14_equals_18 : decode cJ14_equals 18 = .ok (.astore_n 2, 1) := dk_77 (dk_at dksJ14_equals_0 18 rfl rfl)
theorem dJ14_equals_19 : decode cJ14_equals 19 = .ok (.getstatic 38, 3) := dk_178 0 38 (dk_at dksJ14_equals_0 19 rfl rfl)
theorem dJ14_equals_22 : decode cJ14_equals 22 = .ok (.ifCond .eq 14, 3) := dk_153 0 14 (dk_at dksJ14_equals_1 0 rfl rfl)
theorem dJ14_equals_25 : decode cJ14_equals 25 = .ok (.aload_n 0, 1) := dk_42 (dk_at dksJ14_equals_1 3 rfl rfl)
theorem dJ14_equals_26 : decode cJ14_equals 26 = .ok (.getfield 15, 3) := dk_180 0 15 (dk_at dksJ14_equals_1 4 rfl rfl)
theorem dJ14_equals_29 : decode cJ14_equals 29 = .ok (.aload_n 2, 1) := dk_44 (dk_at dksJ14_equals_1 7 rfl rfl)
theorem dJ14_equals_30 : decode cJ14_equals 30 = .ok (.getfield 15, 3) := dk_180 0 15 (dk_at dksJ14_equals_1 8 rfl rfl)
theorem dJ14_equals_33 : decode cJ14_equals 33 = .ok (.if_icmp .ne 21, 3) := dk_160 0 21 (dk_at dksJ14_equals_1 11 rfl rfl)
theorem dJ14_equals_36 : decode cJ14_equals 36 = .ok (.aload_n 0, 1) := dk_42 (dk_at dksJ14_equals_1 14 rfl rfl)
theorem dJ14_equals_37 : decode cJ14_equals 37 = .ok (.getfield 9, 3) := dk_180 0 9 (dk_at dksJ14_equals_1 15 rfl rfl)
theorem dJ14_equals_40 : decode cJ14_equals 40 = .ok (.aload_n 2, 1) := dk_44 (dk_at dksJ14_equals_1 18 rfl rfl)
theorem dJ14_equals_41 : decode cJ14_equals 41 = .ok (.getfield 9, 3) := dk_180 0 9 (dk_at dksJ14_equals_1 19 rfl rfl)
theorem dJ14_equals_44 : decode cJ14_equals 44 = .ok (.invokestatic 541, 3) := dk_184 2 29 (dk_at dksJ14_equals_2 0 rfl rfl)
theorem dJ14_equals_47 : decode cJ14_equals 47 = .ok (.ifCond .eq 7, 3) := dk_153 0 7 (dk_at dksJ14_equals_2 3 rfl rfl)
theorem dJ14_equals_50 : decode cJ14_equals 50 = .ok (.iconst 1, 1) := dk_4 (dk_at dksJ14_equals_2 6 rfl rfl)
theorem dJ14_equals_51 : decode cJ14_equals 51 = .ok (.goto 4, 3) := dk_167 0 4 (dk_at dksJ14_equals_2 7 rfl rfl)
theorem dJ14_equals_54 : decode cJ14_equals 54 = .ok (.iconst 0, 1) := dk_3 (dk_at dksJ14_equals_2 10 rfl rfl)
theorem dJ14_equals_55 : decode cJ14_equals 55 = .ok (.ireturn, 1) := dk_172 (dk_at dksJ14_equals_2 11 rfl rfl)
theorem fc_java_lang_String : sd_Fc [45] "java/lang/String" := fun ci r hm hc => by
  simp only [List.mem_cons, List.not_mem_nil, or_false] at hm
  rcases hm with rfl
  · cases hc; exact Or.inl rfl
abbrev mJ14_equals : sd_Y := (yJ14_equals, cJ14_equals, 3, some (.boolean), none)
def fJ14_equals_b36 (G : sd_G) (w0 : Nat) (w2 : Nat) : sd_M Int32 :=
  sd_bnd (sd_getR G 45 0 w0) fun v3 =>
  sd_bnd (sd_getR G 45 0 w2) fun v4 =>
  sd_bnd (fJ16_equals G v3 v4) fun r5 =>
  if r5 = 0 then (
    sd_ret 0)
  else (
    sd_ret 1)
set_option maxHeartbeats 4000000 in
theorem sJ14_equals_b36 (l : Launch) (G : sd_G) (a0 : Nat) (a1 : Nat) (ρ : Int32) (h2 : sd_H) (cT : Nat × Nat) (w0 : Nat) (w2 : Nat) (h : sd_H) (c : Nat × Nat) (hf : fJ14_equals_b36 G w0 w2 h = some (ρ, c, h2)) : sd_J mJ14_equals ((l, G), (1, 22), [.ref a0, .ref a1], (sd_oI ρ, h2), cT) 36 [(0, .ref w0), (2, .ref w2)] [] h c := by
  unfold fJ14_equals_b36 at hf
  refine sj_aload_n 0 dJ14_equals_36 rfl ?_
  refine sj_getR fdJ14_9_45 hf dJ14_equals_37 (fun v3 hf => ?_)
  refine sj_aload_n 1 dJ14_equals_40 rfl ?_
  refine sj_getR fdJ14_9_45 hf dJ14_equals_41 (fun v4 hf => ?_)
  refine sj_cI (rest := []) (fun _ _ _ e => sj_runS (n := 2) (rest := []) (sJ16_equals l G v3 v4 h _ _ _ e) rfl rfl q856 q857 q143 q858 (by decide +kernel) rfl ⟨Nat.le_of_ble_eq_true rfl, Nat.le_of_ble_eq_true rfl⟩ rfl (Nat.le_of_ble_eq_true rfl) dJ14_equals_44) hf (fun r5 h c hf => ?_)
  refine sj_ifeq 54 hf dJ14_equals_47 (by decide) (fun g47 hf => ?_) (fun g47 hf => ?_)
  · refine sj_iconst (v := 0) dJ14_equals_54 (by decide) ?_
    exact sj_zretC (o := sd_oI) (ty := .boolean) rfl hf rfl rfl rfl dJ14_equals_55
  · refine sj_iconst (v := 1) dJ14_equals_50 (by decide) ?_
    refine sj_goto 55 dJ14_equals_51 (by decide) ?_
    exact sj_zretC (o := sd_oI) (ty := .boolean) rfl hf rfl rfl rfl dJ14_equals_55
def fJ14_equals (G : sd_G) (a0 : Nat) (a1 : Nat) : sd_M Int32 :=
  if a0 = a1 then (
    sd_ret 1)
  else (
    sd_bnd (sd_isC G 45 a1) fun _ =>
    sd_bnd (sd_cast G [45] a1) fun _ =>
    sd_bnd (sd_getI G 45 1 a0) fun v1 =>
    sd_bnd (sd_getI G 45 1 a1) fun v2 =>
    if v1 = v2 then (
      fJ14_equals_b36 G a0 a1)
    else (
      sd_ret 0))
set_option maxHeartbeats 4000000 in
theorem sJ14_equals (l : Launch) (G : sd_G) (a0 : Nat) (a1 : Nat) (h : sd_H) (ρ : Int32) (cT : Nat × Nat) (h2 : sd_H) (hf : fJ14_equals G a0 a1 h = some (ρ, cT, h2)) : sd_Met mJ14_equals ((l, G), (1, 22), [.ref a0, .ref a1], (sd_oI ρ, h2), cT) h := by
  refine sd_entry (plainFor_of_name rfl) rfl (Nat.le_of_ble_eq_true rfl) ?_
  show sd_J mJ14_equals ((l, G), (1, 22), [.ref a0, .ref a1], (sd_oI ρ, h2), cT) 0 [(0, .ref a0), (1, .ref a1)] [] h cT
  unfold fJ14_equals at hf
  refine sj_aload_n 0 dJ14_equals_0 rfl ?_
  refine sj_aload_n 1 dJ14_equals_1 rfl ?_
  refine sj_acneR 7 hf dJ14_equals_2 (by decide) (fun g2 hf => ?_) (fun g2 hf => ?_)
  · refine sj_aload_n 1 dJ14_equals_7 rfl ?_
    obtain ⟨fs8, he8, hf⟩ := sd_isC_some hf
    refine sj_instE he8 rfl q855 dJ14_equals_8 ?_
    refine sj_ifeqN 54 (by decide) dJ14_equals_11 (by decide) ?_
    refine sj_aload_n 1 dJ14_equals_14 rfl ?_
    obtain ⟨ci15, fs15, he15, hm15, hf⟩ := sd_cast_some hf
    refine sj_cast he15 hm15 fc_java_lang_String q855 dJ14_equals_15 ?_
    refine sj_astore_n [(2, .ref a1), (0, .ref a0), (1, .ref a1)] dJ14_equals_18 (by decide) rfl ?_
    refine sj_gets (v := .int 1) 2 rfl rfl ⟨Or.inl q777, rfl⟩ dJ14_equals_19 ?_
    refine sj_ifeqN 36 (by decide) dJ14_equals_22 (by decide) ?_
    refine sj_aload_n 1 dJ14_equals_25 rfl ?_
    refine sj_getI fdJ14_15_45 hf dJ14_equals_26 (fun v1 hf => ?_)
    refine sj_aload_n 0 dJ14_equals_29 rfl ?_
    refine sj_getI fdJ14_15_45 hf dJ14_equals_30 (fun v2 hf => ?_)
    refine sj_icne 54 hf dJ14_equals_33 (by decide) (fun g33 hf => ?_) (fun g33 hf => ?_)
    · refine sj_iconst (v := 0) dJ14_equals_54 (by decide) ?_
      exact sj_zretC (o := sd_oI) (ty := .boolean) rfl hf rfl rfl rfl dJ14_equals_55
    · exact sj_loc [1, 0] rfl (sJ14_equals_b36 l G a0 a1 ρ h2 cT a0 a1 _ _ hf)
  · refine sj_iconst (v := 1) dJ14_equals_5 (by decide) ?_
    exact sj_zretC (o := sd_oI) (ty := .boolean) rfl hf rfl rfl rfl dJ14_equals_6
/-! java/lang/StringLatin1.canEncode(I)Z -/
abbrev cJ16_canEncode_2 : ByteArray := prog_70_method_4_code
def yJ16_canEncode_2 : MethodName := ⟨RJ16, "canEncode", "(I)Z"⟩
def dkwJ16_canEncode_2_0 : List UInt8 := [26, 155, 0, 14, 26, 17, 0, 255, 163, 0, 7, 4, 167, 0, 4, 3, 172]
abbrev dktJ16_canEncode_2_0 : List UInt8 := dkwJ16_canEncode_2_0 ++ []
theorem dksJ16_canEncode_2_0 : cJ16_canEncode_2.data.toList.drop 0 = dktJ16_canEncode_2_0 := by decide +kernel
theorem dJ16_canEncode_2_0 : decode cJ16_canEncode_2 0 = .ok (.iload_n 0, 1) := dk_26 (dk_at dksJ16_canEncode_2_0 0 rfl rfl)
theorem dJ16_canEncode_2_1 : decode cJ16_canEncode_2 1 = .ok (.ifCond .lt 14, 3) := dk_155 0 14 (dk_at dksJ16_canEncode_2_0 1 rfl rfl)
theorem dJ16_canEncode_2_4 : decode cJ16_canEncode_2 4 = .ok (.iload_n 0, 1) := dk_26 (dk_at dksJ16_canEncode_2_0 4 rfl rfl)
theorem dJ16_canEncode_2_5 : decode cJ16_canEncode_2 5 = .ok (.sipush 255, 3) := dk_17 0 255 (dk_at dksJ16_canEncode_2_0 5 rfl rfl)
theorem dJ16_canEncode_2_8 : decode cJ16_canEncode_2 8 = .ok (.if_icmp .gt 7, 3) := dk_163 0 7 (dk_at dksJ16_canEncode_2_0 8 rfl rfl)
theorem dJ16_canEncode_2_11 : decode cJ16_canEncode_2 11 = .ok (.iconst 1, 1) := dk_4 (dk_at dksJ16_canEncode_2_0 11 rfl rfl)
theorem dJ16_canEncode_2_12 : decode cJ16_canEncode_2 12 = .ok (.goto 4, 3) := dk_167 0 4 (dk_at dksJ16_canEncode_2_0 12 rfl rfl)
theorem dJ16_canEncode_2_15 : decode cJ16_canEncode_2 15 = .ok (.iconst 0, 1) := dk_3 (dk_at dksJ16_canEncode_2_0 15 rfl rfl)
theorem dJ16_canEncode_2_16 : decode cJ16_canEncode_2 16 = .ok (.ireturn, 1) := dk_172 (dk_at dksJ16_canEncode_2_0 16 rfl rfl)
abbrev mJ16_canEncode_2 : sd_Y := (yJ16_canEncode_2, cJ16_canEncode_2, 1, some (.boolean), none)
def fJ16_canEncode_2 (G : sd_G) (a1 : Int32) : sd_M Int32 :=
  if a1 < 0 then (
    sd_ret 0)
  else (
    if 255 < a1 then (
      sd_ret 0)
    else (
      sd_ret 1))
set_option maxHeartbeats 4000000 in
theorem sJ16_canEncode_2 (l : Launch) (G : sd_G) (a1 : Int32) (h : sd_H) (ρ : Int32) (cT : Nat × Nat) (h2 : sd_H) (hf : fJ16_canEncode_2 G a1 h = some (ρ, cT, h2)) : sd_Met mJ16_canEncode_2 ((l, G), (0, 0), [.int a1], (sd_oI ρ, h2), cT) h := by
  refine sd_entry (plainFor_of_name rfl) rfl (Nat.le_of_ble_eq_true rfl) ?_
  show sd_J mJ16_canEncode_2 ((l, G), (0, 0), [.int a1], (sd_oI ρ, h2), cT) 0 [(0, .int a1)] [] h cT
  unfold fJ16_canEncode_2 at hf
  refine sj_iload_n 0 dJ16_canEncode_2_0 rfl ?_
  refine sj_iflt 15 hf dJ16_canEncode_2_1 (by decide) (fun g1 hf => ?_) (fun g1 hf => ?_)
  · refine sj_iconst (v := 0) dJ16_canEncode_2_15 (by decide) ?_
    exact sj_zretC (o := sd_oI) (ty := .boolean) rfl hf rfl rfl rfl dJ16_canEncode_2_16
  · refine sj_iload_n 0 dJ16_canEncode_2_4 rfl ?_
    refine sj_sipush (v := 255) dJ16_canEncode_2_5 (by decide) ?_
    refine sj_icgt 15 hf dJ16_canEncode_2_8 (by decide) (fun g8 hf => ?_) (fun g8 hf => ?_)
    · refine sj_iconst (v := 0) dJ16_canEncode_2_15 (by decide) ?_
      exact sj_zretC (o := sd_oI) (ty := .boolean) rfl hf rfl rfl rfl dJ16_canEncode_2_16
    · refine sj_iconst (v := 1) dJ16_canEncode_2_11 (by decide) ?_
      refine sj_goto 16 dJ16_canEncode_2_12 (by decide) ?_
      exact sj_zretC (o := sd_oI) (ty := .boolean) rfl hf rfl rfl rfl dJ16_canEncode_2_16
/-! java/lang/StringLatin1.indexOfChar([BIII)I -/
abbrev cJ16_indexOfChar : ByteArray := prog_70_method_23_code
def yJ16_indexOfChar : MethodName := ⟨RJ16, "indexOfChar", "([BIII)I"⟩
def dkwJ16_indexOfChar_1 : List UInt8 := [172, 132, 5, 1, 167, 255, 235, 2, 172]
abbrev dktJ16_indexOfChar_1 : List UInt8 := dkwJ16_indexOfChar_1 ++ []
def dkwJ16_indexOfChar_0 : List UInt8 := [27, 145, 54, 4, 28, 54, 5, 21, 5, 29, 162, 0, 21, 42, 21, 5, 51, 21, 4, 160, 0, 6, 21, 5]
abbrev dktJ16_indexOfChar_0 : List UInt8 := dkwJ16_indexOfChar_0 ++ dktJ16_indexOfChar_1
theorem dksJ16_indexOfChar_0 : cJ16_indexOfChar.data.toList.drop 0 = dktJ16_indexOfChar_0 := by decide +kernel
theorem dksJ16_indexOfChar_1 : cJ16_indexOfChar.data.toList.drop 24 = dktJ16_indexOfChar_1 := dk_seg dksJ16_indexOfChar_0 24 rfl rfl
theorem dJ16_indexOfChar_0 : decode cJ16_indexOfChar 0 = .ok (.iload_n 1, 1) := dk_27 (dk_at dksJ16_indexOfChar_0 0 rfl rfl)
theorem dJ16_indexOfChar_1 : decode cJ16_indexOfChar 1 = .ok (.i2b, 1) := dk_145 (dk_at dksJ16_indexOfChar_0 1 rfl rfl)
theorem dJ16_indexOfChar_2 : decode cJ16_indexOfChar 2 = .ok (.istore 4, 2) := dk_54 4 (dk_at dksJ16_indexOfChar_0 2 rfl rfl)
theorem dJ16_indexOfChar_4 : decode cJ16_indexOfChar 4 = .ok (.iload_n 2, 1) := dk_28 (dk_at dksJ16_indexOfChar_0 4 rfl rfl)
theorem dJ16_indexOfChar_5 : decode cJ16_indexOfChar 5 = .ok (.istore 5, 2) := dk_54 5 (dk_at dksJ16_indexOfChar_0 5 rfl rfl)
theorem dJ16_indexOfChar_7 : decode cJ16_indexOfChar 7 = .ok (.iload 5, 2) := dk_21 5 (dk_at dksJ16_indexOfChar_0 7 rfl rfl)
theorem dJ16_indexOfChar_9 : decode cJ16_indexOfChar 9 = .ok (.iload_n 3, 1) := dk_29 (dk_at dksJ16_indexOfChar_0 9 rfl rfl)
theorem dJ16_indexOfChar_10 : decode cJ16_indexOfChar 10 = .ok (.if_icmp .ge 21, 3) := dk_162 0 21 (dk_at dksJ16_indexOfChar_0 10 rfl rfl)
theorem dJ16_indexOfChar_13 : decode cJ16_indexOfChar 13 = .ok (.aload_n 0, 1) := dk_42 (dk_at dksJ16_indexOfChar_0 13 rfl rfl)
theorem dJ16_indexOfChar_14 : decode cJ16_indexOfChar 14 = .ok (.iload 5, 2) := dk_21 5 (dk_at dksJ16_indexOfChar_0 14 rfl rfl)
theorem dJ16_indexOfChar_16 : decode cJ16_indexOfChar 16 = .ok (.baload, 1) := dk_51 (dk_at dksJ16_indexOfChar_0 16 rfl rfl)
theorem dJ16_indexOfChar_17 : decode cJ16_indexOfChar 17 = .ok (.iload 4, 2) := dk_21 4 (dk_at dksJ16_indexOfChar_0 17 rfl rfl)
theorem dJ16_indexOfChar_19 : decode cJ16_indexOfChar 19 = .ok (.if_icmp .ne 6, 3) := dk_160 0 6 (dk_at dksJ16_indexOfChar_0 19 rfl rfl)
theorem dJ16_indexOfChar_22 : decode cJ16_indexOfChar 22 = .ok (.iload 5, 2) := dk_21 5 (dk_at dksJ16_indexOfChar_0 22 rfl rfl)
theorem dJ16_indexOfChar_24 : decode cJ16_indexOfChar 24 = .ok (.ireturn, 1) := dk_172 (dk_at dksJ16_indexOfChar_1 0 rfl rfl)
theorem dJ16_indexOfChar_25 : decode cJ16_indexOfChar 25 = .ok (.iinc 5 1, 3) := dk_132 5 1 (dk_at dksJ16_indexOfChar_1 1 rfl rfl)
theorem dJ16_indexOfChar_28 : decode cJ16_indexOfChar 28 = .ok (.goto (-21), 3) := dk_167 255 235 (dk_at dksJ16_indexOfChar_1 4 rfl rfl)
theorem dJ16_indexOfChar_31 : decode cJ16_indexOfChar 31 = .ok (.iconst (-1), 1) := dk_2 (dk_at dksJ16_indexOfChar_1 7 rfl rfl)
theorem dJ16_indexOfChar_32 : decode cJ16_indexOfChar 32 = .ok (.ireturn, 1) := dk_172 (dk_at dksJ16_indexOfChar_1 8 rfl rfl)
abbrev mJ16_indexOfChar : sd_Y := (yJ16_indexOfChar, cJ16_indexOfChar, 6, some (.int), none)
def fJ16_indexOfChar_b7 (G : sd_G) (k7 : Nat × Int32 × Int32 × Int32 → sd_M Int32) (w0 : Nat) (w3 : Int32) (w4 : Int32) (w5 : Int32) : sd_M Int32 :=
  if w3 ≤ w5 then (
    sd_ret (-1))
  else (
    sd_bnd (sd_aldI G 2 w0 w5) fun v2 =>
    if v2 = w4 then (
      sd_ret w5)
    else (
      sd_bnd (sd_ret (w5 + 1)) fun x3 =>
      k7 (w0, w3, w4, x3)))
set_option maxHeartbeats 4000000 in
theorem sJ16_indexOfChar_b7 (l : Launch) (G : sd_G) (a1 : Nat) (a2 : Int32) (a3 : Int32) (a4 : Int32) (ρ : Int32) (h2 : sd_H) (cT : Nat × Nat) (k7 : Nat × Int32 × Int32 × Int32 → sd_M Int32) (Hk7 : ∀ (q : Nat × Int32 × Int32 × Int32) (h : sd_H) (c : Nat × Nat), k7 q h = some (ρ, c, h2) → sd_J mJ16_indexOfChar ((l, G), (0, 0), [.ref a1, .int a2, .int a3, .int a4], (sd_oI ρ, h2), cT) 7 [(0, .ref q.1), (3, .int q.2.1), (4, .int q.2.2.1), (5, .int q.2.2.2)] [] h c) (w0 : Nat) (w3 : Int32) (w4 : Int32) (w5 : Int32) (h : sd_H) (c : Nat × Nat) (hf : fJ16_indexOfChar_b7 G k7 w0 w3 w4 w5 h = some (ρ, c, h2)) : sd_J mJ16_indexOfChar ((l, G), (0, 0), [.ref a1, .int a2, .int a3, .int a4], (sd_oI ρ, h2), cT) 7 [(0, .ref w0), (3, .int w3), (4, .int w4), (5, .int w5)] [] h c := by
  unfold fJ16_indexOfChar_b7 at hf
  refine sj_iload 3 dJ16_indexOfChar_7 rfl ?_
  refine sj_iload_n 1 dJ16_indexOfChar_9 rfl ?_
  refine sj_icge 31 hf dJ16_indexOfChar_10 (by decide) (fun g10 hf => ?_) (fun g10 hf => ?_)
  · refine sj_iconst (v := (-1)) dJ16_indexOfChar_31 (by decide) ?_
    exact sj_iret (o := sd_oI) hf rfl rfl rfl dJ16_indexOfChar_32
  · refine sj_aload_n 0 dJ16_indexOfChar_13 rfl ?_
    refine sj_iload 3 dJ16_indexOfChar_14 rfl ?_
    refine sj_bald hf dJ16_indexOfChar_16 (fun v2 hf => ?_)
    refine sj_iload 2 dJ16_indexOfChar_17 rfl ?_
    refine sj_icne 25 hf dJ16_indexOfChar_19 (by decide) (fun g19 hf => ?_) (fun g19 hf => ?_)
    · refine sj_iincN 3 (fun x3 => [(5, .int x3), (0, .ref w0), (3, .int w3), (4, .int w4)]) 1 hf dJ16_indexOfChar_25 rfl (by decide) (by decide) (fun _ => rfl) (fun x3 hf => ?_)
      refine sj_goto 7 dJ16_indexOfChar_28 (by decide) ?_
      exact sj_loc [1, 2, 3, 0] rfl (Hk7 (w0, w3, w4, x3) _ _ hf)
    · refine sj_iload 3 dJ16_indexOfChar_22 rfl ?_
      exact sj_iret (o := sd_oI) hf rfl rfl rfl dJ16_indexOfChar_24
theorem sJ16_indexOfChar_b7_loop (l : Launch) (G : sd_G) (a1 : Nat) (a2 : Int32) (a3 : Int32) (a4 : Int32) (ρ : Int32) (h2 : sd_H) (cT : Nat × Nat) (n : Nat) : ∀ (q : Nat × Int32 × Int32 × Int32) (h : sd_H) (c : Nat × Nat), sd_loop (fun k s => fJ16_indexOfChar_b7 G k s.1 s.2.1 s.2.2.1 s.2.2.2) n q h = some (ρ, c, h2) → sd_J mJ16_indexOfChar ((l, G), (0, 0), [.ref a1, .int a2, .int a3, .int a4], (sd_oI ρ, h2), cT) 7 [(0, .ref q.1), (3, .int q.2.1), (4, .int q.2.2.1), (5, .int q.2.2.2)] [] h c := by
  induction n with
  | zero => intro q h c hf; cases hf
  | succ n ih => intro q h c hf; exact sJ16_indexOfChar_b7 l G a1 a2 a3 a4 ρ h2 cT _ ih _ _ _ _ _ _ hf
def fJ16_indexOfChar (G : sd_G) (a1 : Nat) (a2 : Int32) (a3 : Int32) (a4 : Int32) : sd_M Int32 :=
  sd_bnd (sd_ret (a2.toInt8.toInt32)) fun x1 =>
  sd_loop (fun k s => fJ16_indexOfChar_b7 G k s.1 s.2.1 s.2.2.1 s.2.2.2) sd_FU (a1, a4, x1, a3)
set_option maxHeartbeats 4000000 in
theorem sJ16_indexOfChar (l : Launch) (G : sd_G) (a1 : Nat) (a2 : Int32) (a3 : Int32) (a4 : Int32) (h : sd_H) (ρ : Int32) (cT : Nat × Nat) (h2 : sd_H) (hf : fJ16_indexOfChar G a1 a2 a3 a4 h = some (ρ, cT, h2)) : sd_Met mJ16_indexOfChar ((l, G), (0, 0), [.ref a1, .int a2, .int a3, .int a4], (sd_oI ρ, h2), cT) h := by
  refine sd_entry (plainFor_of_name rfl) rfl (Nat.le_of_ble_eq_true rfl) ?_
  show sd_J mJ16_indexOfChar ((l, G), (0, 0), [.ref a1, .int a2, .int a3, .int a4], (sd_oI ρ, h2), cT) 0 [(0, .ref a1), (1, .int a2), (2, .int a3), (3, .int a4)] [] h cT
  unfold fJ16_indexOfChar at hf
  refine sj_iload_n 1 dJ16_indexOfChar_0 rfl ?_
  refine sj_i2b dJ16_indexOfChar_1 ?_
  refine sj_nameI hf (fun x1 hf => ?_)
  refine sj_istore [(4, .int x1), (0, .ref a1), (1, .int a2), (2, .int a3), (3, .int a4)] dJ16_indexOfChar_2 (by decide) rfl ?_
  refine sj_iload_n 3 dJ16_indexOfChar_4 rfl ?_
  refine sj_istore [(5, .int a3), (4, .int x1), (0, .ref a1), (1, .int a2), (2, .int a3), (3, .int a4)] dJ16_indexOfChar_5 (by decide) rfl ?_
  exact sj_loc [2, 5, 1, 0] rfl (sJ16_indexOfChar_b7_loop l G a1 a2 a3 a4 ρ h2 cT sd_FU (a1, a4, x1, a3) _ _ hf)
/-! java/lang/StringLatin1.indexOf([BIII)I -/
abbrev cJ16_indexOf : ByteArray := prog_70_method_22_code
def yJ16_indexOf : MethodName := ⟨RJ16, "indexOf", "([BIII)I"⟩
def dkwJ16_indexOf_1 : List UInt8 := [161, 0, 5, 2, 172, 42, 27, 28, 29, 184, 0, 95, 172]
abbrev dktJ16_indexOf_1 : List UInt8 := dkwJ16_indexOf_1 ++ []
def dkwJ16_indexOf_0 : List UInt8 := [27, 184, 0, 88, 154, 0, 5, 2, 172, 28, 3, 184, 0, 92, 61, 29, 42, 190, 184, 0, 38, 62, 28, 29]
abbrev dktJ16_indexOf_0 : List UInt8 := dkwJ16_indexOf_0 ++ dktJ16_indexOf_1
theorem dksJ16_indexOf_0 : cJ16_indexOf.data.toList.drop 0 = dktJ16_indexOf_0 := by decide +kernel
theorem dksJ16_indexOf_1 : cJ16_indexOf.data.toList.drop 24 = dktJ16_indexOf_1 := dk_seg dksJ16_indexOf_0 24 rfl rfl
theorem dJ16_indexOf_0 : decode cJ16_indexOf 0 = .ok (.iload_n 1, 1) := dk_27 (dk_at dksJ16_indexOf_0 0 rfl rfl)
theorem dJ16_indexOf_1 : decode cJ16_indexOf 1 = .ok (.invokestatic 88, 3) := dk_184 0 88 (dk_at dksJ16_indexOf_0 1 rfl rfl)
theorem dJ16_indexOf_4 : decode cJ16_indexOf 4 = .ok (.ifCond .ne 5, 3) := dk_154 0 5 (dk_at dksJ16_indexOf_0 4 rfl rfl)
theorem dJ16_indexOf_7 : decode cJ16_indexOf 7 = .ok (.iconst (-1), 1) := dk_2 (dk_at dksJ16_indexOf_0 7 rfl rfl)
theorem dJ16_indexOf_8 : decode cJ16_indexOf 8 = .ok (.ireturn, 1) := dk_172 (dk_at dksJ16_indexOf_0 8 rfl rfl)
theorem dJ16_indexOf_9 : decode cJ16_indexOf 9 = .ok (.iload_n 2, 1) := dk_28 (dk_at dksJ16_indexOf_0 9 rfl rfl)
theorem dJ16_indexOf_10 : decode cJ16_indexOf 10 = .ok (.iconst 0, 1) := dk_3 (dk_at dksJ16_indexOf_0 10 rfl rfl)
theorem dJ16_indexOf_11 : decode cJ16_indexOf 11 = .ok (.invokestatic 92, 3) := dk_184 0 92 (dk_at dksJ16_indexOf_0 11 rfl rfl)
theorem dJ16_indexOf_14 : decode cJ16_indexOf 14 = .ok (.istore_n 2, 1) := dk_61 (dk_at dksJ16_indexOf_0 14 rfl rfl)
theorem dJ16_indexOf_15 : decode cJ16_indexOf 15 = .ok (.iload_n 3, 1) := dk_29 (dk_at dksJ16_indexOf_0 15 rfl rfl)
theorem dJ16_indexOf_16 : decode cJ16_indexOf 16 = .ok (.aload_n 0, 1) := dk_42 (dk_at dksJ16_indexOf_0 16 rfl rfl)
theorem dJ16_indexOf_17 : decode cJ16_indexOf 17 = .ok (.arraylength, 1) := dk_190 (dk_at dksJ16_indexOf_0 17 rfl rfl)
theorem dJ16_indexOf_18 : decode cJ16_indexOf 18 = .ok (.invokestatic 38, 3) := dk_184 0 38 (dk_at dksJ16_indexOf_0 18 rfl rfl)
theorem dJ16_indexOf_21 : decode cJ16_indexOf 21 = .ok (.istore_n 3, 1) := dk_62 (dk_at dksJ16_indexOf_0 21 rfl rfl)
theorem dJ16_indexOf_22 : decode cJ16_indexOf 22 = .ok (.iload_n 2, 1) := dk_28 (dk_at dksJ16_indexOf_0 22 rfl rfl)
theorem dJ16_indexOf_23 : decode cJ16_indexOf 23 = .ok (.iload_n 3, 1) := dk_29 (dk_at dksJ16_indexOf_0 23 rfl rfl)
theorem dJ16_indexOf_24 : decode cJ16_indexOf 24 = .ok (.if_icmp .lt 5, 3) := dk_161 0 5 (dk_at dksJ16_indexOf_1 0 rfl rfl)
theorem dJ16_indexOf_27 : decode cJ16_indexOf 27 = .ok (.iconst (-1), 1) := dk_2 (dk_at dksJ16_indexOf_1 3 rfl rfl)
theorem dJ16_indexOf_28 : decode cJ16_indexOf 28 = .ok (.ireturn, 1) := dk_172 (dk_at dksJ16_indexOf_1 4 rfl rfl)
theorem dJ16_indexOf_29 : decode cJ16_indexOf 29 = .ok (.aload_n 0, 1) := dk_42 (dk_at dksJ16_indexOf_1 5 rfl rfl)
theorem dJ16_indexOf_30 : decode cJ16_indexOf 30 = .ok (.iload_n 1, 1) := dk_27 (dk_at dksJ16_indexOf_1 6 rfl rfl)
theorem dJ16_indexOf_31 : decode cJ16_indexOf 31 = .ok (.iload_n 2, 1) := dk_28 (dk_at dksJ16_indexOf_1 7 rfl rfl)
theorem dJ16_indexOf_32 : decode cJ16_indexOf 32 = .ok (.iload_n 3, 1) := dk_29 (dk_at dksJ16_indexOf_1 8 rfl rfl)
theorem dJ16_indexOf_33 : decode cJ16_indexOf 33 = .ok (.invokestatic 95, 3) := dk_184 0 95 (dk_at dksJ16_indexOf_1 9 rfl rfl)
theorem dJ16_indexOf_36 : decode cJ16_indexOf 36 = .ok (.ireturn, 1) := dk_172 (dk_at dksJ16_indexOf_1 12 rfl rfl)
abbrev mJ16_indexOf : sd_Y := (yJ16_indexOf, cJ16_indexOf, 4, some (.int), none)
def fJ16_indexOf (G : sd_G) (a1 : Nat) (a2 : Int32) (a3 : Int32) (a4 : Int32) : sd_M Int32 :=
  sd_bnd (fJ16_canEncode_2 G a2) fun r1 =>
  if r1 = 0 then (
    sd_ret (-1))
  else (
    sd_bnd (fJ4_max G a3 0) fun r2 =>
    sd_bnd (sd_alen G a1) fun v3 =>
    sd_bnd (fJ4_min G a4 v3) fun r4 =>
    if r2 < r4 then (
      sd_bnd (fJ16_indexOfChar G a1 a2 r2 r4) fun r5 =>
      sd_ret r5)
    else (
      sd_ret (-1)))
set_option maxHeartbeats 4000000 in
theorem sJ16_indexOf (l : Launch) (G : sd_G) (a1 : Nat) (a2 : Int32) (a3 : Int32) (a4 : Int32) (h : sd_H) (ρ : Int32) (cT : Nat × Nat) (h2 : sd_H) (hf : fJ16_indexOf G a1 a2 a3 a4 h = some (ρ, cT, h2)) : sd_Met mJ16_indexOf ((l, G), (1, 25), [.ref a1, .int a2, .int a3, .int a4], (sd_oI ρ, h2), cT) h := by
  refine sd_entry (plainFor_of_name rfl) rfl (Nat.le_of_ble_eq_true rfl) ?_
  show sd_J mJ16_indexOf ((l, G), (1, 25), [.ref a1, .int a2, .int a3, .int a4], (sd_oI ρ, h2), cT) 0 [(0, .ref a1), (1, .int a2), (2, .int a3), (3, .int a4)] [] h cT
  unfold fJ16_indexOf at hf
  refine sj_iload_n 1 dJ16_indexOf_0 rfl ?_
  refine sj_cI (rest := []) (fun _ _ _ e => sj_runS (n := 1) (rest := []) (sJ16_canEncode_2 l G a2 h _ _ _ e) rfl rfl q882 q883 q143 q884 (by decide +kernel) rfl ⟨Nat.le_of_ble_eq_true rfl, Nat.le_of_ble_eq_true rfl⟩ rfl (Nat.le_of_ble_eq_true rfl) dJ16_indexOf_1) hf (fun r1 h c hf => ?_)
  refine sj_ifne 9 hf dJ16_indexOf_4 (by decide) (fun g4 hf => ?_) (fun g4 hf => ?_)
  · refine sj_iload_n 2 dJ16_indexOf_9 rfl ?_
    refine sj_iconst (v := 0) dJ16_indexOf_10 (by decide) ?_
    refine sj_cI (rest := []) (fun _ _ _ e => sj_runS (n := 2) (rest := []) (sJ4_max l G a3 0 h _ _ _ e) rfl rfl q885 q357 q124 q358 (by decide +kernel) rfl ⟨Nat.le_of_ble_eq_true rfl, Nat.le_of_ble_eq_true rfl⟩ rfl (Nat.le_of_ble_eq_true rfl) dJ16_indexOf_11) hf (fun r2 h c hf => ?_)
    refine sj_istore_n [(2, .int r2), (0, .ref a1), (1, .int a2), (3, .int a4)] dJ16_indexOf_14 (by decide) rfl ?_
    refine sj_iload_n 3 dJ16_indexOf_15 rfl ?_
    refine sj_aload_n 1 dJ16_indexOf_16 rfl ?_
    refine sj_alen hf dJ16_indexOf_17 (fun v3 hf => ?_)
    refine sj_cI (rest := []) (fun _ _ _ e => sj_runS (n := 2) (rest := []) (sJ4_min l G a4 v3 h _ _ _ e) rfl rfl q886 q432 q124 q433 (by decide +kernel) rfl ⟨Nat.le_of_ble_eq_true rfl, Nat.le_of_ble_eq_true rfl⟩ rfl (Nat.le_of_ble_eq_true rfl) dJ16_indexOf_18) hf (fun r4 h c hf => ?_)
    refine sj_istore_n [(3, .int r4), (2, .int r2), (0, .ref a1), (1, .int a2)] dJ16_indexOf_21 (by decide) rfl ?_
    refine sj_iload_n 1 dJ16_indexOf_22 rfl ?_
    refine sj_iload_n 0 dJ16_indexOf_23 rfl ?_
    refine sj_iclt 29 hf dJ16_indexOf_24 (by decide) (fun g24 hf => ?_) (fun g24 hf => ?_)
    · refine sj_aload_n 2 dJ16_indexOf_29 rfl ?_
      refine sj_iload_n 3 dJ16_indexOf_30 rfl ?_
      refine sj_iload_n 1 dJ16_indexOf_31 rfl ?_
      refine sj_iload_n 0 dJ16_indexOf_32 rfl ?_
      refine sj_cI (rest := []) (fun _ _ _ e => sj_runS (n := 4) (rest := []) (sJ16_indexOfChar l G a1 a2 r2 r4 h _ _ _ e) rfl rfl q887 q888 q143 q889 (by decide +kernel) rfl ⟨Nat.le_of_ble_eq_true rfl, Nat.le_of_ble_eq_true rfl⟩ rfl (Nat.le_of_ble_eq_true rfl) dJ16_indexOf_33) hf (fun r5 h c hf => ?_)
      exact sj_iret (o := sd_oI) hf rfl rfl rfl dJ16_indexOf_36
    · refine sj_iconst (v := (-1)) dJ16_indexOf_27 (by decide) ?_
      exact sj_iret (o := sd_oI) hf rfl rfl rfl dJ16_indexOf_28
  · refine sj_iconst (v := (-1)) dJ16_indexOf_7 (by decide) ?_
    exact sj_iret (o := sd_oI) hf rfl rfl rfl dJ16_indexOf_8
/-! java/lang/String.indexOf(II)I -/
abbrev cJ14_indexOf_2 : ByteArray := prog_68_method_80_code
def yJ14_indexOf_2 : MethodName := ⟨RJ14, "indexOf", "(II)I"⟩
def dkwJ14_indexOf_2_1 : List UInt8 := [180, 0, 9, 27, 28, 42, 182, 1, 249, 184, 2, 128, 172]
abbrev dktJ14_indexOf_2_1 : List UInt8 := dkwJ14_indexOf_2_1 ++ []
def dkwJ14_indexOf_2_0 : List UInt8 := [42, 182, 1, 236, 153, 0, 19, 42, 180, 0, 9, 27, 28, 42, 182, 1, 249, 184, 2, 125, 167, 0, 16, 42]
abbrev dktJ14_indexOf_2_0 : List UInt8 := dkwJ14_indexOf_2_0 ++ dktJ14_indexOf_2_1
theorem dksJ14_indexOf_2_0 : cJ14_indexOf_2.data.toList.drop 0 = dktJ14_indexOf_2_0 := by decide +kernel
theorem dksJ14_indexOf_2_1 : cJ14_indexOf_2.data.toList.drop 24 = dktJ14_indexOf_2_1 := dk_seg dksJ14_indexOf_2_0 24 rfl rfl
theorem dJ14_indexOf_2_0 : decode cJ14_indexOf_2 0 = .ok (.aload_n 0, 1) := dk_42 (dk_at dksJ14_indexOf_2_0 0 rfl rfl)
theorem dJ14_indexOf_2_1 : decode cJ14_indexOf_2 1 = .ok (.invokevirtual 492, 3) := dk_182 1 236 (dk_at dksJ14_indexOf_2_0 1 rfl rfl)
theorem dJ14_indexOf_2_4 : decode cJ14_indexOf_2 4 = .ok (.ifCond .eq 19, 3) := dk_153 0 19 (dk_at dksJ14_indexOf_2_0 4 rfl rfl)
theorem dJ14_indexOf_2_7 : decode cJ14_indexOf_2 7 = .ok (.aload_n 0, 1) := dk_42 (dk_at dksJ14_indexOf_2_0 7 rfl rfl)
theorem dJ14_indexOf_2_8 : decode cJ14_indexOf_2 8 = .ok (.getfield 9, 3) := dk_180 0 9 (dk_at dksJ14_indexOf_2_0 8 rfl rfl)
theorem dJ14_indexOf_2_11 : decode cJ14_indexOf_2 11 = .ok (.iload_n 1, 1) := dk_27 (dk_at dksJ14_indexOf_2_0 11 rfl rfl)
theorem dJ14_indexOf_2_12 : decode cJ14_indexOf_2 12 = .ok (.iload_n 2, 1) := dk_28 (dk_at dksJ14_indexOf_2_0 12 rfl rfl)
theorem dJ14_indexOf_2_13 : decode cJ14_indexOf_2 13 = .ok (.aload_n 0, 1) := dk_42 (dk_at dksJ14_indexOf_2_0 13 rfl rfl)
theorem dJ14_indexOf_2_14 : decode cJ14_indexOf_2 14 = .ok (.invokevirtual 505, 3) := dk_182 1 249 (dk_at dksJ14_indexOf_2_0 14 rfl rfl)
theorem dJ14_indexOf_2_17 : decode cJ14_indexOf_2 17 = .ok (.invokestatic 637, 3) := dk_184 2 125 (dk_at dksJ14_indexOf_2_0 17 rfl rfl)
theorem dJ14_indexOf_2_20 : decode cJ14_indexOf_2 20 = .ok (.goto 16, 3) := dk_167 0 16 (dk_at dksJ14_indexOf_2_0 20 rfl rfl)
theorem dJ14_indexOf_2_23 : decode cJ14_indexOf_2 23 = .ok (.aload_n 0, 1) := dk_42 (dk_at dksJ14_indexOf_2_0 23 rfl rfl)
theorem dJ14_indexOf_2_24 : decode cJ14_indexOf_2 24 = .ok (.getfield 9, 3) := dk_180 0 9 (dk_at dksJ14_indexOf_2_1 0 rfl rfl)
theorem dJ14_indexOf_2_27 : decode cJ14_indexOf_2 27 = .ok (.iload_n 1, 1) := dk_27 (dk_at dksJ14_indexOf_2_1 3 rfl rfl)
theorem dJ14_indexOf_2_28 : decode cJ14_indexOf_2 28 = .ok (.iload_n 2, 1) := dk_28 (dk_at dksJ14_indexOf_2_1 4 rfl rfl)
theorem dJ14_indexOf_2_29 : decode cJ14_indexOf_2 29 = .ok (.aload_n 0, 1) := dk_42 (dk_at dksJ14_indexOf_2_1 5 rfl rfl)
theorem dJ14_indexOf_2_30 : decode cJ14_indexOf_2 30 = .ok (.invokevirtual 505, 3) := dk_182 1 249 (dk_at dksJ14_indexOf_2_1 6 rfl rfl)
theorem dJ14_indexOf_2_33 : decode cJ14_indexOf_2 33 = .ok (.invokestatic 640, 3) := dk_184 2 128 (dk_at dksJ14_indexOf_2_1 9 rfl rfl)
theorem dJ14_indexOf_2_36 : decode cJ14_indexOf_2 36 = .ok (.ireturn, 1) := dk_172 (dk_at dksJ14_indexOf_2_1 12 rfl rfl)
abbrev mJ14_indexOf_2 : sd_Y := (yJ14_indexOf_2, cJ14_indexOf_2, 3, some (.int), none)
def fJ14_indexOf_2 (G : sd_G) (a0 : Nat) (a1 : Int32) (a2 : Int32) : sd_M Int32 :=
  sd_bnd (sd_isC G 45 a0) fun _ =>
  sd_bnd (fJ14_isLatin1 G a0) fun r1 =>
  if r1 = 0 then (
    sd_fail)
  else (
    sd_bnd (sd_getR G 45 0 a0) fun v2 =>
    sd_bnd (sd_isC G 45 a0) fun _ =>
    sd_bnd (fJ14_length G a0) fun r3 =>
    sd_bnd (fJ16_indexOf G v2 a1 a2 r3) fun r4 =>
    sd_ret r4)
set_option maxHeartbeats 4000000 in
theorem sJ14_indexOf_2 (l : Launch) (G : sd_G) (a0 : Nat) (a1 : Int32) (a2 : Int32) (h : sd_H) (ρ : Int32) (cT : Nat × Nat) (h2 : sd_H) (hf : fJ14_indexOf_2 G a0 a1 a2 h = some (ρ, cT, h2)) : sd_Met mJ14_indexOf_2 ((l, G), (2, 48), [.ref a0, .int a1, .int a2], (sd_oI ρ, h2), cT) h := by
  refine sd_entry (plainFor_of_name rfl) rfl (Nat.le_of_ble_eq_true rfl) ?_
  show sd_J mJ14_indexOf_2 ((l, G), (2, 48), [.ref a0, .int a1, .int a2], (sd_oI ρ, h2), cT) 0 [(0, .ref a0), (1, .int a1), (2, .int a2)] [] h cT
  unfold fJ14_indexOf_2 at hf
  refine sj_aload_n 0 dJ14_indexOf_2_0 rfl ?_
  obtain ⟨fs1, he1, hf⟩ := sd_isC_some hf
  refine sj_cI (rest := []) (fun _ _ _ e => sj_runV (n := 0) (As := []) (rest := []) (sJ14_isLatin1 l G a0 h _ _ _ e) he1 rfl rfl rfl rfl q874 q875 q876 q141 q877 (by decide +kernel) rfl rfl ⟨Nat.le_of_ble_eq_true rfl, Nat.le_of_ble_eq_true rfl⟩ rfl (Nat.le_of_ble_eq_true rfl) dJ14_indexOf_2_1) hf (fun r1 h c hf => ?_)
  refine sj_ifeq 23 hf dJ14_indexOf_2_4 (by decide) (fun g4 hf => ?_) (fun g4 hf => ?_)
  · cases hf
  · refine sj_aload_n 0 dJ14_indexOf_2_7 rfl ?_
    refine sj_getR fdJ14_9_45 hf dJ14_indexOf_2_8 (fun v2 hf => ?_)
    refine sj_iload_n 1 dJ14_indexOf_2_11 rfl ?_
    refine sj_iload_n 2 dJ14_indexOf_2_12 rfl ?_
    refine sj_aload_n 0 dJ14_indexOf_2_13 rfl ?_
    obtain ⟨fs14, he14, hf⟩ := sd_isC_some hf
    refine sj_cI (rest := [.int a2, .int a1, .ref v2]) (fun _ _ _ e => sj_runV (n := 0) (As := []) (rest := [.int a2, .int a1, .ref v2]) (sJ14_length l G a0 h _ _ _ e) he14 rfl rfl rfl rfl q878 q770 q771 q141 q772 (by decide +kernel) rfl rfl ⟨Nat.le_of_ble_eq_true rfl, Nat.le_of_ble_eq_true rfl⟩ rfl (Nat.le_of_ble_eq_true rfl) dJ14_indexOf_2_14) hf (fun r3 h c hf => ?_)
    refine sj_cI (rest := []) (fun _ _ _ e => sj_runS (n := 4) (rest := []) (sJ16_indexOf l G v2 a1 a2 r3 h _ _ _ e) rfl rfl q879 q880 q143 q881 (by decide +kernel) rfl ⟨Nat.le_of_ble_eq_true rfl, Nat.le_of_ble_eq_true rfl⟩ rfl (Nat.le_of_ble_eq_true rfl) dJ14_indexOf_2_17) hf (fun r4 h c hf => ?_)
    refine sj_goto 36 dJ14_indexOf_2_20 (by decide) ?_
    exact sj_iret (o := sd_oI) hf rfl rfl rfl dJ14_indexOf_2_36
/-! java/lang/String.indexOf(I)I -/
abbrev cJ14_indexOf : ByteArray := prog_68_method_79_code
def yJ14_indexOf : MethodName := ⟨RJ14, "indexOf", "(I)I"⟩
def dkwJ14_indexOf_0 : List UInt8 := [42, 27, 3, 182, 2, 121, 172]
abbrev dktJ14_indexOf_0 : List UInt8 := dkwJ14_indexOf_0 ++ []
theorem dksJ14_indexOf_0 : cJ14_indexOf.data.toList.drop 0 = dktJ14_indexOf_0 := by decide +kernel
theorem dJ14_indexOf_0 : decode cJ14_indexOf 0 = .ok (.aload_n 0, 1) := dk_42 (dk_at dksJ14_indexOf_0 0 rfl rfl)
theorem dJ14_indexOf_1 : decode cJ14_indexOf 1 = .ok (.iload_n 1, 1) := dk_27 (dk_at dksJ14_indexOf_0 1 rfl rfl)
theorem dJ14_indexOf_2 : decode cJ14_indexOf 2 = .ok (.iconst 0, 1) := dk_3 (dk_at dksJ14_indexOf_0 2 rfl rfl)
theorem dJ14_indexOf_3 : decode cJ14_indexOf 3 = .ok (.invokevirtual 633, 3) := dk_182 2 121 (dk_at dksJ14_indexOf_0 3 rfl rfl)
theorem dJ14_indexOf_6 : decode cJ14_indexOf 6 = .ok (.ireturn, 1) := dk_172 (dk_at dksJ14_indexOf_0 6 rfl rfl)
abbrev mJ14_indexOf : sd_Y := (yJ14_indexOf, cJ14_indexOf, 2, some (.int), none)
def fJ14_indexOf (G : sd_G) (a0 : Nat) (a1 : Int32) : sd_M Int32 :=
  sd_bnd (sd_isC G 45 a0) fun _ =>
  sd_bnd (fJ14_indexOf_2 G a0 a1 0) fun r1 =>
  sd_ret r1
set_option maxHeartbeats 4000000 in
theorem sJ14_indexOf (l : Launch) (G : sd_G) (a0 : Nat) (a1 : Int32) (h : sd_H) (ρ : Int32) (cT : Nat × Nat) (h2 : sd_H) (hf : fJ14_indexOf G a0 a1 h = some (ρ, cT, h2)) : sd_Met mJ14_indexOf ((l, G), (3, 70), [.ref a0, .int a1], (sd_oI ρ, h2), cT) h := by
  refine sd_entry (plainFor_of_name rfl) rfl (Nat.le_of_ble_eq_true rfl) ?_
  show sd_J mJ14_indexOf ((l, G), (3, 70), [.ref a0, .int a1], (sd_oI ρ, h2), cT) 0 [(0, .ref a0), (1, .int a1)] [] h cT
  unfold fJ14_indexOf at hf
  refine sj_aload_n 0 dJ14_indexOf_0 rfl ?_
  refine sj_iload_n 1 dJ14_indexOf_1 rfl ?_
  refine sj_iconst (v := 0) dJ14_indexOf_2 (by decide) ?_
  obtain ⟨fs3, he3, hf⟩ := sd_isC_some hf
  refine sj_cI (rest := []) (fun _ _ _ e => sj_runV (n := 2) (As := [.int a1, .int 0]) (rest := []) (sJ14_indexOf_2 l G a0 a1 0 h _ _ _ e) he3 rfl rfl rfl rfl q870 q871 q872 q141 q873 (by decide +kernel) rfl rfl ⟨Nat.le_of_ble_eq_true rfl, Nat.le_of_ble_eq_true rfl⟩ rfl (Nat.le_of_ble_eq_true rfl) dJ14_indexOf_3) hf (fun r1 h c hf => ?_)
  exact sj_iret (o := sd_oI) hf rfl rfl rfl dJ14_indexOf_6
