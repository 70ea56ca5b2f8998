set_option maxRecDepth 100000
theorem q127 : (Jvm.Cond.initialized "SofaDigModel") ∈ lw_all := lw_g (lw_at lw_m1 12 rfl) rfl
theorem q128 : (Jvm.Cond.initialized "SofaDigModel$Plan") ∈ lw_all := lw_g (lw_at lw_m1 13 rfl) rfl
theorem q188 : (Jvm.Cond.instanceMethod ({ cls := "java/lang/Object", name := "<init>", desc := "()V" } : Jvm.MethodName)) ∈ lw_all := lw_g (lw_at lw_m1 73 rfl) rfl
theorem q189 : (Jvm.Cond.code ({ cls := "java/lang/Object", name := "<init>", desc := "()V" } : Jvm.MethodName) object_method_1_code (1 : Nat) (Option.none : Option Jvm.ClassFile.FieldType)) ∈ lw_all := lw_g (lw_at lw_m1 74 rfl) rfl
theorem q300 : (Jvm.Cond.arrayClass Jvm.ClassFile.FieldType.int) ∈ lw_all := lw_g (lw_at lw_m1 185 rfl) rfl
theorem q770 : (Jvm.Cond.instanceMethod ({ cls := "java/lang/String", name := "length", desc := "()I" } : Jvm.MethodName)) ∈ lw_all := lw_g (lw_at lw_m3 175 rfl) rfl
theorem q771 : (Jvm.Cond.selects "java/lang/String" ({ cls := "java/lang/String", name := "length", desc := "()I" } : Jvm.MethodName) ({ cls := "java/lang/String", name := "length", desc := "()I" } : Jvm.MethodName)) ∈ lw_all := lw_g (lw_at lw_m3 176 rfl) rfl
theorem q1066 : (Jvm.Cond.instanceMethod ({ cls := "java/lang/String", name := "charAt", desc := "(I)C" } : Jvm.MethodName)) ∈ lw_all := lw_g (lw_at lw_m4 231 rfl) rfl
theorem q1067 : (Jvm.Cond.selects "java/lang/String" ({ cls := "java/lang/String", name := "charAt", desc := "(I)C" } : Jvm.MethodName) ({ cls := "java/lang/String", name := "charAt", desc := "(I)C" } : Jvm.MethodName)) ∈ lw_all := lw_g (lw_at lw_m4 232 rfl) rfl
theorem q2763 : (Jvm.Cond.code ({ cls := "SofaDigModel", name := "<init>", desc := "()V" } : Jvm.MethodName) prog_46_method_1_code (1 : Nat) (Option.none : Option Jvm.ClassFile.FieldType)) ∈ lw_all := lw_g (lw_at lw_m12 8 rfl) rfl
theorem q2764 : (Jvm.Cond.methodLink "SofaDigModel" (3 : Nat) ({ cls := "java/lang/Object", name := "<init>", desc := "()V" } : Jvm.MethodName)) ∈ lw_all := lw_g (lw_at lw_m12 9 rfl) rfl
theorem q2765 : (Jvm.Cond.classLink "SofaDigModel" (17 : Nat) "SofaDigModel$Plan") ∈ lw_all := lw_g (lw_at lw_m12 10 rfl) rfl
theorem q2766 : (Jvm.Cond.instantiable "SofaDigModel$Plan" (19 : Nat)) ∈ lw_all := lw_g (lw_at lw_m12 11 rfl) rfl
theorem q2767 : (Jvm.Cond.methodLink "SofaDigModel" (19 : Nat) ({ cls := "SofaDigModel$Plan", name := "<init>", desc := "()V" } : Jvm.MethodName)) ∈ lw_all := lw_g (lw_at lw_m12 12 rfl) rfl
theorem q2768 : (Jvm.Cond.instanceMethod ({ cls := "SofaDigModel$Plan", name := "<init>", desc := "()V" } : Jvm.MethodName)) ∈ lw_all := lw_g (lw_at lw_m12 13 rfl) rfl
theorem q2769 : (Jvm.Cond.code ({ cls := "SofaDigModel$Plan", name := "<init>", desc := "()V" } : Jvm.MethodName) prog_47_method_1_code (2 : Nat) (Option.none : Option Jvm.ClassFile.FieldType)) ∈ lw_all := lw_g (lw_at lw_m12 14 rfl) rfl
theorem q2770 : (Jvm.Cond.methodLink "SofaDigModel$Plan" (3 : Nat) ({ cls := "java/lang/Object", name := "<init>", desc := "()V" } : Jvm.MethodName)) ∈ lw_all := lw_g (lw_at lw_m12 15 rfl) rfl
theorem q2771 : (Jvm.Cond.fieldLink "SofaDigModel$Plan" (9 : Nat) "SofaDigModel$Plan" "seats" "I") ∈ lw_all := lw_g (lw_at lw_m12 16 rfl) rfl
theorem q2772 : (Jvm.Cond.fieldLinkNest "SofaDigModel" (52 : Nat) "SofaDigModel$Plan" "seats" "I" "SofaDigModel") ∈ lw_tbl := lw_at lw_m12 17 rfl
theorem q2773 : (Jvm.Cond.fieldLink "SofaDigModel$Plan" (15 : Nat) "SofaDigModel$Plan" "strata" "I") ∈ lw_all := lw_g (lw_at lw_m12 18 rfl) rfl
theorem q2774 : (Jvm.Cond.fieldLinkNest "SofaDigModel" (55 : Nat) "SofaDigModel$Plan" "strata" "I" "SofaDigModel") ∈ lw_tbl := lw_at lw_m12 19 rfl
theorem q2776 : (Jvm.Cond.fieldLink "SofaDigModel$Plan" (18 : Nat) "SofaDigModel$Plan" "empire" "[J") ∈ lw_all := lw_g (lw_at lw_m12 21 rfl) rfl
theorem q2778 : (Jvm.Cond.fieldLink "SofaDigModel$Plan" (22 : Nat) "SofaDigModel$Plan" "begin" "[I") ∈ lw_all := lw_g (lw_at lw_m12 23 rfl) rfl
theorem q2780 : (Jvm.Cond.fieldLink "SofaDigModel$Plan" (26 : Nat) "SofaDigModel$Plan" "end" "[I") ∈ lw_all := lw_g (lw_at lw_m12 25 rfl) rfl
theorem q2783 : (Jvm.Cond.fieldLink "SofaDigModel$Plan" (29 : Nat) "SofaDigModel$Plan" "isCoin" "[Z") ∈ lw_all := lw_g (lw_at lw_m12 28 rfl) rfl
theorem q2785 : (Jvm.Cond.fieldLink "SofaDigModel$Plan" (33 : Nat) "SofaDigModel$Plan" "cushion" "[I") ∈ lw_all := lw_g (lw_at lw_m12 30 rfl) rfl
theorem q2787 : (Jvm.Cond.fieldLink "SofaDigModel$Plan" (36 : Nat) "SofaDigModel$Plan" "what" "[I") ∈ lw_all := lw_g (lw_at lw_m12 32 rfl) rfl
theorem q2789 : (Jvm.Cond.fieldLink "SofaDigModel$Plan" (39 : Nat) "SofaDigModel$Plan" "find" "[I") ∈ lw_all := lw_g (lw_at lw_m12 34 rfl) rfl
theorem q2791 : (Jvm.Cond.fieldLink "SofaDigModel$Plan" (42 : Nat) "SofaDigModel$Plan" "spring" "[Z") ∈ lw_all := lw_g (lw_at lw_m12 36 rfl) rfl
theorem q2794 : (Jvm.Cond.fieldLink "SofaDigModel$Plan" (45 : Nat) "SofaDigModel$Plan" "does" "[I") ∈ lw_all := lw_g (lw_at lw_m12 39 rfl) rfl
theorem q2796 : (Jvm.Cond.fieldLink "SofaDigModel$Plan" (48 : Nat) "SofaDigModel$Plan" "begins" "[I") ∈ lw_all := lw_g (lw_at lw_m12 41 rfl) rfl
theorem q2798 : (Jvm.Cond.fieldLink "SofaDigModel$Plan" (51 : Nat) "SofaDigModel$Plan" "ends" "[I") ∈ lw_all := lw_g (lw_at lw_m12 43 rfl) rfl
theorem q2800 : (Jvm.Cond.fieldLink "SofaDigModel$Plan" (54 : Nat) "SofaDigModel$Plan" "order" "[I") ∈ lw_all := lw_g (lw_at lw_m12 45 rfl) rfl
theorem q2801 : (Jvm.Cond.fieldLinkNest "SofaDigModel" (188 : Nat) "SofaDigModel$Plan" "order" "[I" "SofaDigModel") ∈ lw_tbl := lw_at lw_m12 46 rfl
theorem q2802 : (Jvm.Cond.fieldLink "SofaDigModel$Plan" (57 : Nat) "SofaDigModel$Plan" "with" "[I") ∈ lw_all := lw_g (lw_at lw_m12 47 rfl) rfl
theorem q2803 : (Jvm.Cond.fieldLinkNest "SofaDigModel" (194 : Nat) "SofaDigModel$Plan" "with" "[I" "SofaDigModel") ∈ lw_tbl := lw_at lw_m12 48 rfl
theorem q2804 : (Jvm.Cond.fieldLinkNest "SofaDigModel" (265 : Nat) "SofaDigModel$Plan" "many" "I" "SofaDigModel") ∈ lw_tbl := lw_at lw_m12 49 rfl
theorem q2844 : (Jvm.Cond.arrayClass Jvm.ClassFile.FieldType.long) ∈ lw_all := lw_g (lw_at lw_m12 89 rfl) rfl
theorem q2845 : (Jvm.Cond.arrayClass Jvm.ClassFile.FieldType.boolean) ∈ lw_all := lw_g (lw_at lw_m12 90 rfl) rfl
theorem q2846 : (Jvm.Cond.methodLink "SofaDigModel" (49 : Nat) ({ cls := "SofaDigModel", name := "fill", desc := "()V" } : Jvm.MethodName)) ∈ lw_all := lw_g (lw_at lw_m12 91 rfl) rfl
theorem q2848 : (Jvm.Cond.instanceMethod ({ cls := "SofaDigModel", name := "fill", desc := "()V" } : Jvm.MethodName)) ∈ lw_all := lw_g (lw_at lw_m12 93 rfl) rfl
theorem q2849 : (Jvm.Cond.code ({ cls := "SofaDigModel", name := "fill", desc := "()V" } : Jvm.MethodName) prog_46_method_2_code (3 : Nat) (Option.none : Option Jvm.ClassFile.FieldType)) ∈ lw_all := lw_g (lw_at lw_m12 94 rfl) rfl
theorem q2850 : (Jvm.Cond.fieldLink "SofaDigModel" (58 : Nat) "SofaDigModel" "thrown" "I") ∈ lw_all := lw_g (lw_at lw_m12 95 rfl) rfl
theorem q2851 : (Jvm.Cond.fieldLink "SofaDigModel" (9 : Nat) "SofaDigModel" "tape" "[I") ∈ lw_all := lw_g (lw_at lw_m12 96 rfl) rfl
theorem q2852 : (Jvm.Cond.fieldLink "SofaDigModel" (210 : Nat) "SofaDigModel" "size" "I") ∈ lw_all := lw_g (lw_at lw_m12 97 rfl) rfl
theorem q2853 : (Jvm.Cond.fieldLink "SofaDigModel" (13 : Nat) "SofaDigModel" "errorAt" "I") ∈ lw_all := lw_g (lw_at lw_m12 98 rfl) rfl
theorem q2854 : (Jvm.Cond.fieldLink "SofaDigModel" (20 : Nat) "SofaDigModel" "plan" "LSofaDigModel$Plan;") ∈ lw_all := lw_g (lw_at lw_m12 99 rfl) rfl
theorem q2855 : (Jvm.Cond.fieldLink "SofaDigModel" (24 : Nat) "SofaDigModel" "kind" "[I") ∈ lw_all := lw_g (lw_at lw_m12 100 rfl) rfl
theorem q2856 : (Jvm.Cond.fieldLink "SofaDigModel" (27 : Nat) "SofaDigModel" "from" "[I") ∈ lw_all := lw_g (lw_at lw_m12 101 rfl) rfl
theorem q2857 : (Jvm.Cond.fieldLink "SofaDigModel" (30 : Nat) "SofaDigModel" "means" "[I") ∈ lw_all := lw_g (lw_at lw_m12 102 rfl) rfl
theorem q2858 : (Jvm.Cond.fieldLink "SofaDigModel" (33 : Nat) "SofaDigModel" "value" "[J") ∈ lw_all := lw_g (lw_at lw_m12 103 rfl) rfl
theorem q2859 : (Jvm.Cond.fieldLink "SofaDigModel" (37 : Nat) "SofaDigModel" "who" "[I") ∈ lw_all := lw_g (lw_at lw_m12 104 rfl) rfl
theorem q2860 : (Jvm.Cond.fieldLink "SofaDigModel" (256 : Nat) "SofaDigModel" "token" "I") ∈ lw_all := lw_g (lw_at lw_m12 105 rfl) rfl
theorem q2861 : (Jvm.Cond.fieldLink "SofaDigModel" (262 : Nat) "SofaDigModel" "depth" "I") ∈ lw_all := lw_g (lw_at lw_m12 106 rfl) rfl
theorem q2865 : (Jvm.Cond.fieldLink "SofaDigModel" (40 : Nat) "SofaDigModel" "now" "[I") ∈ lw_all := lw_g (lw_at lw_m12 110 rfl) rfl
theorem q2866 : (Jvm.Cond.fieldLink "SofaDigModel" (43 : Nat) "SofaDigModel" "kept" "[I") ∈ lw_all := lw_g (lw_at lw_m12 111 rfl) rfl
theorem q2867 : (Jvm.Cond.fieldLink "SofaDigModel" (46 : Nat) "SofaDigModel" "stack" "[I") ∈ lw_all := lw_g (lw_at lw_m12 112 rfl) rfl
theorem q2908 : (Jvm.Cond.code ({ cls := "SofaDigModel", name := "thrown", desc := "()I" } : Jvm.MethodName) prog_46_method_3_code (1 : Nat) (Option.some Jvm.ClassFile.FieldType.int)) ∈ lw_all := lw_g (lw_at lw_m12 153 rfl) rfl
theorem q2912 : (Jvm.Cond.code ({ cls := "SofaDigModel", name := "feed", desc := "(IIIII)I" } : Jvm.MethodName) prog_46_method_83_code (8 : Nat) (Option.some Jvm.ClassFile.FieldType.int)) ∈ lw_all := lw_g (lw_at lw_m12 157 rfl) rfl
theorem q2913 : (Jvm.Cond.methodLink "SofaDigModel" (395 : Nat) ({ cls := "SofaDigModel", name := "no", desc := "(I)I" } : Jvm.MethodName)) ∈ lw_all := lw_g (lw_at lw_m12 158 rfl) rfl
theorem q2915 : (Jvm.Cond.instanceMethod ({ cls := "SofaDigModel", name := "no", desc := "(I)I" } : Jvm.MethodName)) ∈ lw_all := lw_g (lw_at lw_m12 160 rfl) rfl
theorem q2916 : (Jvm.Cond.code ({ cls := "SofaDigModel", name := "no", desc := "(I)I" } : Jvm.MethodName) prog_46_method_4_code (2 : Nat) (Option.some Jvm.ClassFile.FieldType.int)) ∈ lw_all := lw_g (lw_at lw_m12 161 rfl) rfl
theorem q2920 : (Jvm.Cond.code ({ cls := "SofaDigModel", name := "trim", desc := "(I)I" } : Jvm.MethodName) prog_46_method_84_code (2 : Nat) (Option.some Jvm.ClassFile.FieldType.int)) ∈ lw_all := lw_g (lw_at lw_m12 165 rfl) rfl
theorem q2921 : (Jvm.Cond.methodLink "SofaDigModel" (61 : Nat) ({ cls := "SofaDigModel", name := "isIn", desc := "(III)Z" } : Jvm.MethodName)) ∈ lw_all := lw_g (lw_at lw_m12 166 rfl) rfl
theorem q2922 : (Jvm.Cond.static ({ cls := "SofaDigModel", name := "isIn", desc := "(III)Z" } : Jvm.MethodName)) ∈ lw_all := lw_g (lw_at lw_m12 167 rfl) rfl
theorem q2923 : (Jvm.Cond.code ({ cls := "SofaDigModel", name := "isIn", desc := "(III)Z" } : Jvm.MethodName) prog_46_method_7_code (3 : Nat) (Option.some Jvm.ClassFile.FieldType.boolean)) ∈ lw_all := lw_g (lw_at lw_m12 168 rfl) rfl
theorem q2935 : (Jvm.Cond.code ({ cls := "SofaDigModel", name := "cutIntoTokens", desc := "()V" } : Jvm.MethodName) prog_46_method_48_code (4 : Nat) (Option.none : Option Jvm.ClassFile.FieldType)) ∈ lw_all := lw_g (lw_at lw_m12 180 rfl) rfl
theorem q2936 : (Jvm.Cond.methodLink "SofaDigModel" (213 : Nat) ({ cls := "SofaDigModel", name := "byteOf", desc := "(I)I" } : Jvm.MethodName)) ∈ lw_all := lw_g (lw_at lw_m12 181 rfl) rfl
theorem q2938 : (Jvm.Cond.instanceMethod ({ cls := "SofaDigModel", name := "byteOf", desc := "(I)I" } : Jvm.MethodName)) ∈ lw_all := lw_g (lw_at lw_m12 183 rfl) rfl
theorem q2939 : (Jvm.Cond.code ({ cls := "SofaDigModel", name := "byteOf", desc := "(I)I" } : Jvm.MethodName) prog_46_method_39_code (2 : Nat) (Option.some Jvm.ClassFile.FieldType.int)) ∈ lw_all := lw_g (lw_at lw_m12 184 rfl) rfl
theorem q2940 : (Jvm.Cond.methodLink "SofaDigModel" (250 : Nat) ({ cls := "SofaDigModel", name := "endOf", desc := "(I)I" } : Jvm.MethodName)) ∈ lw_all := lw_g (lw_at lw_m12 185 rfl) rfl
theorem q2942 : (Jvm.Cond.instanceMethod ({ cls := "SofaDigModel", name := "endOf", desc := "(I)I" } : Jvm.MethodName)) ∈ lw_all := lw_g (lw_at lw_m12 187 rfl) rfl
theorem q2943 : (Jvm.Cond.code ({ cls := "SofaDigModel", name := "endOf", desc := "(I)I" } : Jvm.MethodName) prog_46_method_42_code (4 : Nat) (Option.some Jvm.ClassFile.FieldType.int)) ∈ lw_all := lw_g (lw_at lw_m12 188 rfl) rfl
theorem q2944 : (Jvm.Cond.methodLink "SofaDigModel" (216 : Nat) ({ cls := "SofaDigModel", name := "isSmall", desc := "(I)Z" } : Jvm.MethodName)) ∈ lw_all := lw_g (lw_at lw_m12 189 rfl) rfl
theorem q2945 : (Jvm.Cond.static ({ cls := "SofaDigModel", name := "isSmall", desc := "(I)Z" } : Jvm.MethodName)) ∈ lw_all := lw_g (lw_at lw_m12 190 rfl) rfl
theorem q2946 : (Jvm.Cond.code ({ cls := "SofaDigModel", name := "isSmall", desc := "(I)Z" } : Jvm.MethodName) prog_46_method_40_code (1 : Nat) (Option.some Jvm.ClassFile.FieldType.boolean)) ∈ lw_all := lw_g (lw_at lw_m12 191 rfl) rfl
theorem q2947 : (Jvm.Cond.methodLink "SofaDigModel" (219 : Nat) ({ cls := "SofaDigModel", name := "isDigit", desc := "(I)Z" } : Jvm.MethodName)) ∈ lw_all := lw_g (lw_at lw_m12 192 rfl) rfl
theorem q2948 : (Jvm.Cond.static ({ cls := "SofaDigModel", name := "isDigit", desc := "(I)Z" } : Jvm.MethodName)) ∈ lw_all := lw_g (lw_at lw_m12 193 rfl) rfl
theorem q2949 : (Jvm.Cond.code ({ cls := "SofaDigModel", name := "isDigit", desc := "(I)Z" } : Jvm.MethodName) prog_46_method_41_code (1 : Nat) (Option.some Jvm.ClassFile.FieldType.boolean)) ∈ lw_all := lw_g (lw_at lw_m12 194 rfl) rfl
theorem q2950 : (Jvm.Cond.methodLink "SofaDigModel" (253 : Nat) ({ cls := "SofaDigModel", name := "kindOf", desc := "(III)I" } : Jvm.MethodName)) ∈ lw_all := lw_g (lw_at lw_m12 195 rfl) rfl
theorem q2952 : (Jvm.Cond.instanceMethod ({ cls := "SofaDigModel", name := "kindOf", desc := "(III)I" } : Jvm.MethodName)) ∈ lw_all := lw_g (lw_at lw_m12 197 rfl) rfl
theorem q2953 : (Jvm.Cond.code ({ cls := "SofaDigModel", name := "kindOf", desc := "(III)I" } : Jvm.MethodName) prog_46_method_43_code (5 : Nat) (Option.some Jvm.ClassFile.FieldType.int)) ∈ lw_all := lw_g (lw_at lw_m12 198 rfl) rfl
theorem q2954 : (Jvm.Cond.methodLink "SofaDigModel" (222 : Nat) ({ cls := "SofaDigModel", name := "numberAt", desc := "(III)I" } : Jvm.MethodName)) ∈ lw_all := lw_g (lw_at lw_m12 199 rfl) rfl
theorem q2956 : (Jvm.Cond.instanceMethod ({ cls := "SofaDigModel", name := "numberAt", desc := "(III)I" } : Jvm.MethodName)) ∈ lw_all := lw_g (lw_at lw_m12 201 rfl) rfl
theorem q2957 : (Jvm.Cond.code ({ cls := "SofaDigModel", name := "numberAt", desc := "(III)I" } : Jvm.MethodName) prog_46_method_44_code (6 : Nat) (Option.some Jvm.ClassFile.FieldType.int)) ∈ lw_all := lw_g (lw_at lw_m12 202 rfl) rfl
theorem q2958 : (Jvm.Cond.methodLink "SofaDigModel" (225 : Nat) ({ cls := "SofaDigModel", name := "wordAt", desc := "(III)I" } : Jvm.MethodName)) ∈ lw_all := lw_g (lw_at lw_m12 203 rfl) rfl
theorem q2960 : (Jvm.Cond.instanceMethod ({ cls := "SofaDigModel", name := "wordAt", desc := "(III)I" } : Jvm.MethodName)) ∈ lw_all := lw_g (lw_at lw_m12 205 rfl) rfl
theorem q2961 : (Jvm.Cond.code ({ cls := "SofaDigModel", name := "wordAt", desc := "(III)I" } : Jvm.MethodName) prog_46_method_47_code (7 : Nat) (Option.some Jvm.ClassFile.FieldType.int)) ∈ lw_all := lw_g (lw_at lw_m12 206 rfl) rfl
theorem q2962 : (Jvm.Cond.constantLong "SofaDigModel" (233 : Nat) (37 : Int64)) ∈ lw_all := lw_g (lw_at lw_m12 207 rfl) rfl
theorem q2963 : (Jvm.Cond.methodLink "SofaDigModel" (239 : Nat) ({ cls := "SofaDigModel", name := "letter", desc := "(I)I" } : Jvm.MethodName)) ∈ lw_all := lw_g (lw_at lw_m12 208 rfl) rfl
theorem q2964 : (Jvm.Cond.static ({ cls := "SofaDigModel", name := "letter", desc := "(I)I" } : Jvm.MethodName)) ∈ lw_all := lw_g (lw_at lw_m12 209 rfl) rfl
theorem q2965 : (Jvm.Cond.code ({ cls := "SofaDigModel", name := "letter", desc := "(I)I" } : Jvm.MethodName) prog_46_method_45_code (1 : Nat) (Option.some Jvm.ClassFile.FieldType.int)) ∈ lw_all := lw_g (lw_at lw_m12 210 rfl) rfl
theorem q2966 : (Jvm.Cond.fieldLink "SofaDigModel" (242 : Nat) "SofaDigModel" "WORDS" "[Ljava/lang/String;") ∈ lw_all := lw_g (lw_at lw_m12 211 rfl) rfl
theorem q2968 : (Jvm.Cond.methodLink "SofaDigModel" (246 : Nat) ({ cls := "SofaDigModel", name := "nameOf", desc := "(Ljava/lang/String;)J" } : Jvm.MethodName)) ∈ lw_all := lw_g (lw_at lw_m12 213 rfl) rfl
theorem q2969 : (Jvm.Cond.static ({ cls := "SofaDigModel", name := "nameOf", desc := "(Ljava/lang/String;)J" } : Jvm.MethodName)) ∈ lw_all := lw_g (lw_at lw_m12 214 rfl) rfl
theorem q2970 : (Jvm.Cond.code ({ cls := "SofaDigModel", name := "nameOf", desc := "(Ljava/lang/String;)J" } : Jvm.MethodName) prog_46_method_46_code (4 : Nat) (Option.some Jvm.ClassFile.FieldType.long)) ∈ lw_all := lw_g (lw_at lw_m12 215 rfl) rfl
theorem q2971 : (Jvm.Cond.methodLink "SofaDigModel" (228 : Nat) ({ cls := "java/lang/String", name := "length", desc := "()I" } : Jvm.MethodName)) ∈ lw_all := lw_g (lw_at lw_m12 216 rfl) rfl
theorem q2972 : (Jvm.Cond.methodLink "SofaDigModel" (235 : Nat) ({ cls := "java/lang/String", name := "charAt", desc := "(I)C" } : Jvm.MethodName)) ∈ lw_all := lw_g (lw_at lw_m12 217 rfl) rfl
theorem q2977 : (Jvm.Cond.methodLink "SofaDigModel" (259 : Nat) ({ cls := "SofaDigModel", name := "eat", desc := "(I)Z" } : Jvm.MethodName)) ∈ lw_all := lw_g (lw_at lw_m12 222 rfl) rfl
theorem q2979 : (Jvm.Cond.instanceMethod ({ cls := "SofaDigModel", name := "eat", desc := "(I)Z" } : Jvm.MethodName)) ∈ lw_all := lw_g (lw_at lw_m12 224 rfl) rfl
theorem q2980 : (Jvm.Cond.code ({ cls := "SofaDigModel", name := "eat", desc := "(I)Z" } : Jvm.MethodName) prog_46_method_49_code (2 : Nat) (Option.some Jvm.ClassFile.FieldType.boolean)) ∈ lw_all := lw_g (lw_at lw_m12 225 rfl) rfl
theorem q2981 : (Jvm.Cond.methodLink "SofaDigModel" (272 : Nat) ({ cls := "SofaDigModel", name := "eatAs", desc := "(II)Z" } : Jvm.MethodName)) ∈ lw_all := lw_g (lw_at lw_m12 226 rfl) rfl
theorem q2983 : (Jvm.Cond.instanceMethod ({ cls := "SofaDigModel", name := "eatAs", desc := "(II)Z" } : Jvm.MethodName)) ∈ lw_all := lw_g (lw_at lw_m12 228 rfl) rfl
theorem q2984 : (Jvm.Cond.code ({ cls := "SofaDigModel", name := "eatAs", desc := "(II)Z" } : Jvm.MethodName) prog_46_method_50_code (3 : Nat) (Option.some Jvm.ClassFile.FieldType.boolean)) ∈ lw_all := lw_g (lw_at lw_m12 229 rfl) rfl
theorem q3013 : (Jvm.Cond.code ({ cls := "SofaDigModel", name := "deeper", desc := "(I)Z" } : Jvm.MethodName) prog_46_method_51_code (2 : Nat) (Option.some Jvm.ClassFile.FieldType.boolean)) ∈ lw_all := lw_g (lw_at lw_m13 18 rfl) rfl
theorem q3014 : (Jvm.Cond.methodLink "SofaDigModel" (268 : Nat) ({ cls := "SofaDigModel", name := "put", desc := "(LSofaDigModel$Plan;II)V" } : Jvm.MethodName)) ∈ lw_all := lw_g (lw_at lw_m13 19 rfl) rfl
theorem q3016 : (Jvm.Cond.instanceMethod ({ cls := "SofaDigModel", name := "put", desc := "(LSofaDigModel$Plan;II)V" } : Jvm.MethodName)) ∈ lw_all := lw_g (lw_at lw_m13 21 rfl) rfl
theorem q3017 : (Jvm.Cond.code ({ cls := "SofaDigModel", name := "put", desc := "(LSofaDigModel$Plan;II)V" } : Jvm.MethodName) prog_46_method_53_code (4 : Nat) (Option.none : Option Jvm.ClassFile.FieldType)) ∈ lw_all := lw_g (lw_at lw_m13 22 rfl) rfl
theorem q3021 : (Jvm.Cond.code ({ cls := "SofaDigModel", name := "closes", desc := "(I)Z" } : Jvm.MethodName) prog_46_method_52_code (2 : Nat) (Option.some Jvm.ClassFile.FieldType.boolean)) ∈ lw_all := lw_g (lw_at lw_m13 26 rfl) rfl
theorem q3025 : (Jvm.Cond.code ({ cls := "SofaDigModel", name := "isAbout", desc := "(LSofaDigModel$Plan;I)Z" } : Jvm.MethodName) prog_46_method_54_code (3 : Nat) (Option.some Jvm.ClassFile.FieldType.boolean)) ∈ lw_all := lw_g (lw_at lw_m13 30 rfl) rfl
theorem q3116 : (Jvm.Cond.code ({ cls := "SofaDigModel", name := "ok", desc := "(I)I" } : Jvm.MethodName) prog_46_method_6_code (2 : Nat) (Option.some Jvm.ClassFile.FieldType.int)) ∈ lw_all := lw_g (lw_at lw_m13 121 rfl) rfl
theorem q3155 : (Jvm.Cond.code ({ cls := "SofaDigModel", name := "one", desc := "(Z)I" } : Jvm.MethodName) prog_46_method_8_code (1 : Nat) (Option.some Jvm.ClassFile.FieldType.int)) ∈ lw_all := lw_g (lw_at lw_m13 160 rfl) rfl
theorem q3193 : (Jvm.Cond.code ({ cls := "SofaDigModel", name := "isNot", desc := "(I)Z" } : Jvm.MethodName) prog_46_method_5_code (2 : Nat) (Option.some Jvm.ClassFile.FieldType.boolean)) ∈ lw_all := lw_g (lw_at lw_m13 198 rfl) rfl
/-! SofaDigModel$Plan.<init>()V -/
abbrev cX6_init : ByteArray := prog_47_method_1_code
def yX6_init : MethodName := ⟨RX6, "<init>", "()V"⟩
def dkwX6_init_6 : List UInt8 := [177]
abbrev dktX6_init_6 : List UInt8 := dkwX6_init_6 ++ []
def dkwX6_init_5 : List UInt8 := [181, 0, 57, 3, 60, 27, 16, 80, 162, 0, 16, 42, 180, 0, 39, 27, 2, 79, 132, 1, 1, 167, 255, 240]
abbrev dktX6_init_5 : List UInt8 := dkwX6_init_5 ++ dktX6_init_6
def dkwX6_init_4 : List UInt8 := [16, 32, 188, 10, 181, 0, 51, 42, 17, 3, 32, 188, 10, 181, 0, 54, 42, 17, 3, 32, 188, 10]
abbrev dktX6_init_4 : List UInt8 := dkwX6_init_4 ++ dktX6_init_5
def dkwX6_init_3 : List UInt8 := [16, 80, 188, 4, 181, 0, 42, 42, 16, 16, 188, 10, 181, 0, 45, 42, 16, 32, 188, 10, 181, 0, 48, 42]
abbrev dktX6_init_3 : List UInt8 := dkwX6_init_3 ++ dktX6_init_4
def dkwX6_init_2 : List UInt8 := [16, 24, 188, 10, 181, 0, 33, 42, 16, 24, 188, 10, 181, 0, 36, 42, 16, 80, 188, 10, 181, 0, 39, 42]
abbrev dktX6_init_2 : List UInt8 := dkwX6_init_2 ++ dktX6_init_3
def dkwX6_init_1 : List UInt8 := [16, 6, 188, 10, 181, 0, 22, 42, 16, 6, 188, 10, 181, 0, 26, 42, 16, 24, 188, 4, 181, 0, 29, 42]
abbrev dktX6_init_1 : List UInt8 := dkwX6_init_1 ++ dktX6_init_2
def dkwX6_init_0 : List UInt8 := [42, 183, 0, 3, 42, 7, 181, 0, 9, 42, 16, 6, 181, 0, 15, 42, 16, 6, 188, 11, 181, 0, 18, 42]
abbrev dktX6_init_0 : List UInt8 := dkwX6_init_0 ++ dktX6_init_1
theorem dksX6_init_0 : cX6_init.data.toList.drop 0 = dktX6_init_0 := by decide +kernel
theorem dksX6_init_1 : cX6_init.data.toList.drop 24 = dktX6_init_1 := dk_seg dksX6_init_0 24 rfl rfl
theorem dksX6_init_2 : cX6_init.data.toList.drop 48 = dktX6_init_2 := dk_seg dksX6_init_1 24 rfl rfl
theorem dksX6_init_3 : cX6_init.data.toList.drop 72 = dktX6_init_3 := dk_seg dksX6_init_2 24 rfl rfl
theorem dksX6_init_4 : cX6_init.data.toList.drop 96 = dktX6_init_4 := dk_seg dksX6_init_3 24 rfl rfl
theorem dksX6_init_5 : cX6_init.data.toList.drop 118 = dktX6_init_5 := dk_seg dksX6_init_4 22 rfl rfl
theorem dksX6_init_6 : cX6_init.data.toList.drop 142 = dktX6_init_6 := dk_seg dksX6_init_5 24 rfl rfl
theorem dX6_init_0 : decode cX6_init 0 = .ok (.aload_n 0, 1) := dk_42 (dk_at dksX6_init_0 0 rfl rfl)
theorem dX6_init_1 : decode cX6_init 1 = .ok (.invokespecial 3, 3) := dk_183 0 3 (dk_at dksX6_init_0 1 rfl rfl)
theorem dX6_init_4 : decode cX6_init 4 = .ok (.aload_n 0, 1) := dk_42 (dk_at dksX6_init_0 4 rfl rfl)
theorem dX6_init_5 : decode cX6_init 5 = .ok (.iconst 4, 1) := dk_7 (dk_at dksX6_init_0 5 rfl rfl)
theorem dX6_init_6 : decode cX6_init 6 = .ok (.putfield 9, 3) := dk_181 0 9 (dk_at dksX6_init_0 6 rfl rfl)
theorem dX6_init_9 : decode cX6_init 9 = .ok (.aload_n 0, 1) := dk_42 (dk_at dksX6_init_0 9 rfl rfl)
theorem dX6_init_10 : decode cX6_init 10 = .ok (.bipush 6, 2) := dk_16 6 (dk_at dksX6_init_0 10 rfl rfl)
theorem dX6_init_12 : decode cX6_init 12 = .ok (.putfield 15, 3) := dk_181 0 15 (dk_at dksX6_init_0 12 rfl rfl)
theorem dX6_init_15 : decode cX6_init 15 = .ok (.aload_n 0, 1) := dk_42 (dk_at dksX6_init_0 15 rfl rfl)
theorem dX6_init_16 : decode cX6_init 16 = .ok (.bipush 6, 2) := dk_16 6 (dk_at dksX6_init_0 16 rfl rfl)
theorem dX6_init_18 : decode cX6_init 18 = .ok (.newarray .long, 2) := dk_188_11 (dk_at dksX6_init_0 18 rfl rfl)
theorem dX6_init_20 : decode cX6_init 20 = .ok (.putfield 18, 3) := dk_181 0 18 (dk_at dksX6_init_0 20 rfl rfl)
theorem dX6_init_23 : decode cX6_init 23 = .ok (.aload_n 0, 1) := dk_42 (dk_at dksX6_init_0 23 rfl rfl)
theorem dX6_init_24 : decode cX6_init 24 = .ok (.bipush 6, 2) := dk_16 6 (dk_at dksX6_init_1 0 rfl rfl)
theorem dX6_init_26 : decode cX6_init 26 = .ok (.newarray .int, 2) := dk_188_10 (dk_at dksX6_init_1 2 rfl rfl)
theorem dX6_init_28 : decode cX6_init 28 = .ok (.putfield 22, 3) := dk_181 0 22 (dk_at dksX6_init_1 4 rfl rfl)
theorem dX6_init_31 : decode cX6_init 31 = .ok (.aload_n 0, 1) := dk_42 (dk_at dksX6_init_1 7 rfl rfl)
theorem dX6_init_32 : decode cX6_init 32 = .ok (.bipush 6, 2) := dk_16 6 (dk_at dksX6_init_1 8 rfl rfl)
theorem dX6_init_34 : decode cX6_init 34 = .ok (.newarray .int, 2) := dk_188_10 (dk_at dksX6_init_1 10 rfl rfl)
theorem dX6_init_36 : decode cX6_init 36 = .ok (.putfield 26, 3) := dk_181 0 26 (dk_at dksX6_init_1 12 rfl rfl)
theorem dX6_init_39 : decode cX6_init 39 = .ok (.aload_n 0, 1) := dk_42 (dk_at dksX6_init_1 15 rfl rfl)
theorem dX6_init_40 : decode cX6_init 40 = .ok (.bipush 24, 2) := dk_16 24 (dk_at dksX6_init_1 16 rfl rfl)
theorem dX6_init_42 : decode cX6_init 42 = .ok (.newarray .boolean, 2) := dk_188_4 (dk_at dksX6_init_1 18 rfl rfl)
theorem dX6_init_44 : decode cX6_init 44 = .ok (.putfield 29, 3) := dk_181 0 29 (dk_at dksX6_init_1 20 rfl rfl)
theorem dX6_init_47 : decode cX6_init 47 = .ok (.aload_n 0, 1) := dk_42 (dk_at dksX6_init_1 23 rfl rfl)
theorem dX6_init_48 : decode cX6_init 48 = .ok (.bipush 24, 2) := dk_16 24 (dk_at dksX6_init_2 0 rfl rfl)
theorem dX6_init_50 : decode cX6_init 50 = .ok (.newarray .int, 2) := dk_188_10 (dk_at dksX6_init_2 2 rfl rfl)
theorem dX6_init_52 : decode cX6_init 52 = .ok (.putfield 33, 3) := dk_181 0 33 (dk_at dksX6_init_2 4 rfl rfl)
theorem dX6_init_55 : decode cX6_init 55 = .ok (.aload_n 0, 1) := dk_42 (dk_at dksX6_init_2 7 rfl rfl)
theorem dX6_init_56 : decode cX6_init 56 = .ok (.bipush 24, 2) := dk_16 24 (dk_at dksX6_init_2 8 rfl rfl)
theorem dX6_init_58 : decode cX6_init 58 = .ok (.newarray .int, 2) := dk_188_10 (dk_at dksX6_init_2 10 rfl rfl)
theorem dX6_init_60 : decode cX6_init 60 = .ok (.putfield 36, 3) := dk_181 0 36 (dk_at dksX6_init_2 12 rfl rfl)
theorem dX6_init_63 : decode cX6_init 63 = .ok (.aload_n 0, 1) := dk_42 (dk_at dksX6_init_2 15 rfl rfl)
theorem dX6_init_64 : decode cX6_init 64 = .ok (.bipush 80, 2) := dk_16 80 (dk_at dksX6_init_2 16 rfl rfl)
theorem dX6_init_66 : decode cX6_init 66 = .ok (.newarray .int, 2) := dk_188_10 (dk_at dksX6_init_2 18 rfl rfl)
theorem dX6_init_68 : decode cX6_init 68 = .ok (.putfield 39, 3) := dk_181 0 39 (dk_at dksX6_init_2 20 rfl rfl)
theorem dX6_init_71 : decode cX6_init 71 = .ok (.aload_n 0, 1) := dk_42 (dk_at dksX6_init_2 23 rfl rfl)
theorem dX6_init_72 : decode cX6_init 72 = .ok (.bipush 80, 2) := dk_16 80 (dk_at dksX6_init_3 0 rfl rfl)
theorem dX6_init_74 : decode cX6_init 74 = .ok (.newarray .boolean, 2) := dk_188_4 (dk_at dksX6_init_3 2 rfl rfl)
theorem dX6_init_76 : decode cX6_init 76 = .ok (.putfield 42, 3) := dk_181 0 42 (dk_at dksX6_init_3 4 rfl rfl)
theorem dX6_init_79 : decode cX6_init 79 = .ok (.aload_n 0, 1) := dk_42 (dk_at dksX6_init_3 7 rfl rfl)
theorem dX6_init_80 : decode cX6_init 80 = .ok (.bipush 16, 2) := dk_16 16 (dk_at dksX6_init_3 8 rfl rfl)
theorem dX6_init_82 : decode cX6_init 82 = .ok (.newarray .int, 2) := dk_188_10 (dk_at dksX6_init_3 10 rfl rfl)
theorem dX6_init_84 : decode cX6_init 84 = .ok (.putfield 45, 3) := dk_181 0 45 (dk_at dksX6_init_3 12 rfl rfl)
theorem dX6_init_87 : decode cX6_init 87 = .ok (.aload_n 0, 1) := dk_42 (dk_at dksX6_init_3 15 rfl rfl)
theorem dX6_init_88 : decode cX6_init 88 = .ok (.bipush 32, 2) := dk_16 32 (dk_at dksX6_init_3 16 rfl rfl)
theorem dX6_init_90 : decode cX6_init 90 = .ok (.newarray .int, 2) := dk_188_10 (dk_at dksX6_init_3 18 rfl rfl)
theorem dX6_init_92 : decode cX6_init 92 = .ok (.putfield 48, 3) := dk_181 0 48 (dk_at dksX6_init_3 20 rfl rfl)
theorem dX6_init_95 : decode cX6_init 95 = .ok (.aload_n 0, 1) := dk_42 (dk_at dksX6_init_3 23 rfl rfl)
theorem dX6_init_96 : decode cX6_init 96 = .ok (.bipush 32, 2) := dk_16 32 (dk_at dksX6_init_4 0 rfl rfl)
theorem dX6_init_98 : decode cX6_init 98 = .ok (.newarray .int, 2) := dk_188_10 (dk_at dksX6_init_4 2 rfl rfl)
theorem dX6_init_100 : decode cX6_init 100 = .ok (.putfield 51, 3) := dk_181 0 51 (dk_at dksX6_init_4 4 rfl rfl)
theorem dX6_init_103 : decode cX6_init 103 = .ok (.aload_n 0, 1) := dk_42 (dk_at dksX6_init_4 7 rfl rfl)
theorem dX6_init_104 : decode cX6_init 104 = .ok (.sipush 800, 3) := dk_17 3 32 (dk_at dksX6_init_4 8 rfl rfl)
theorem dX6_init_107 : decode cX6_init 107 = .ok (.newarray .int, 2) := dk_188_10 (dk_at dksX6_init_4 11 rfl rfl)
theorem dX6_init_109 : decode cX6_init 109 = .ok (.putfield 54, 3) := dk_181 0 54 (dk_at dksX6_init_4 13 rfl rfl)
theorem dX6_init_112 : decode cX6_init 112 = .ok (.aload_n 0, 1) := dk_42 (dk_at dksX6_init_4 16 rfl rfl)
theorem dX6_init_113 : decode cX6_init 113 = .ok (.sipush 800, 3) := dk_17 3 32 (dk_at dksX6_init_4 17 rfl rfl)
theorem dX6_init_116 : decode cX6_init 116 = .ok (.newarray .int, 2) := dk_188_10 (dk_at dksX6_init_4 20 rfl rfl)
theorem dX6_init_118 : decode cX6_init 118 = .ok (.putfield 57, 3) := dk_181 0 57 (dk_at dksX6_init_5 0 rfl rfl)
theorem dX6_init_121 : decode cX6_init 121 = .ok (.iconst 0, 1) := dk_3 (dk_at dksX6_init_5 3 rfl rfl)
theorem dX6_init_122 : decode cX6_init 122 = .ok (.istore_n 1, 1) := dk_60 (dk_at dksX6_init_5 4 rfl rfl)
theorem dX6_init_123 : decode cX6_init 123 = .ok (.iload_n 1, 1) := dk_27 (dk_at dksX6_init_5 5 rfl rfl)
theorem dX6_init_124 : decode cX6_init 124 = .ok (.bipush 80, 2) := dk_16 80 (dk_at dksX6_init_5 6 rfl rfl)
theorem dX6_init_126 : decode cX6_init 126 = .ok (.if_icmp .ge 16, 3) := dk_162 0 16 (dk_at dksX6_init_5 8 rfl rfl)
theorem dX6_init_129 : decode cX6_init 129 = .ok (.aload_n 0, 1) := dk_42 (dk_at dksX6_init_5 11 rfl rfl)
theorem dX6_init_130 : decode cX6_init 130 = .ok (.getfield 39, 3) := dk_180 0 39 (dk_at dksX6_init_5 12 rfl rfl)
theorem dX6_init_133 : decode cX6_init 133 = .ok (.iload_n 1, 1) := dk_27 (dk_at dksX6_init_5 15 rfl rfl)
theorem dX6_init_134 : decode cX6_init 134 = .ok (.iconst (-1), 1) := dk_2 (dk_at dksX6_init_5 16 rfl rfl)
theorem dX6_init_135 : decode cX6_init 135 = .ok (.iastore, 1) := dk_79 (dk_at dksX6_init_5 17 rfl rfl)
theorem dX6_init_136 : decode cX6_init 136 = .ok (.iinc 1 1, 3) := dk_132 1 1 (dk_at dksX6_init_5 18 rfl rfl)
theorem dX6_init_139 : decode cX6_init 139 = .ok (.goto (-16), 3) := dk_167 255 240 (dk_at dksX6_init_5 21 rfl rfl)
theorem dX6_init_142 : decode cX6_init 142 = .ok (.return_, 1) := dk_177 (dk_at dksX6_init_6 0 rfl rfl)
theorem fpX6_9_5 (n d : String) : sd_Fp ⟨"SofaDigModel$Plan", n, d⟩ 9 5 0 .int := ⟨(RX6, TX6, 19), "SofaDigModel$Plan", tyX6, rfl, by decide, rfl, in_X6, Or.inl rfl, tyX6_ok, nmX6, rfl, Or.inl ⟨rfl, Or.inl q2771⟩⟩
theorem fpX6_15_5 (n d : String) : sd_Fp ⟨"SofaDigModel$Plan", n, d⟩ 15 5 1 .int := ⟨(RX6, TX6, 19), "SofaDigModel$Plan", tyX6, rfl, by decide, rfl, in_X6, Or.inl rfl, tyX6_ok, nmX6, rfl, Or.inl ⟨rfl, Or.inl q2773⟩⟩
theorem fpX6_init_18 : sd_Fp yX6_init 18 5 3 (.array .long) := ⟨(RX6, TX6, 19), "SofaDigModel$Plan", tyX6, rfl, by decide, rfl, in_X6, Or.inl rfl, tyX6_ok, nmX6, rfl, Or.inr ⟨rfl, rfl, rfl, q2776⟩⟩
theorem fpX6_init_22 : sd_Fp yX6_init 22 5 4 (.array .int) := ⟨(RX6, TX6, 19), "SofaDigModel$Plan", tyX6, rfl, by decide, rfl, in_X6, Or.inl rfl, tyX6_ok, nmX6, rfl, Or.inr ⟨rfl, rfl, rfl, q2778⟩⟩
theorem fpX6_init_26 : sd_Fp yX6_init 26 5 5 (.array .int) := ⟨(RX6, TX6, 19), "SofaDigModel$Plan", tyX6, rfl, by decide, rfl, in_X6, Or.inl rfl, tyX6_ok, nmX6, rfl, Or.inr ⟨rfl, rfl, rfl, q2780⟩⟩
theorem fpX6_init_29 : sd_Fp yX6_init 29 5 7 (.array .boolean) := ⟨(RX6, TX6, 19), "SofaDigModel$Plan", tyX6, rfl, by decide, rfl, in_X6, Or.inl rfl, tyX6_ok, nmX6, rfl, Or.inr ⟨rfl, rfl, rfl, q2783⟩⟩
theorem fpX6_init_33 : sd_Fp yX6_init 33 5 8 (.array .int) := ⟨(RX6, TX6, 19), "SofaDigModel$Plan", tyX6, rfl, by decide, rfl, in_X6, Or.inl rfl, tyX6_ok, nmX6, rfl, Or.inr ⟨rfl, rfl, rfl, q2785⟩⟩
theorem fpX6_init_36 : sd_Fp yX6_init 36 5 9 (.array .int) := ⟨(RX6, TX6, 19), "SofaDigModel$Plan", tyX6, rfl, by decide, rfl, in_X6, Or.inl rfl, tyX6_ok, nmX6, rfl, Or.inr ⟨rfl, rfl, rfl, q2787⟩⟩
theorem fpX6_init_39 : sd_Fp yX6_init 39 5 10 (.array .int) := ⟨(RX6, TX6, 19), "SofaDigModel$Plan", tyX6, rfl, by decide, rfl, in_X6, Or.inl rfl, tyX6_ok, nmX6, rfl, Or.inr ⟨rfl, rfl, rfl, q2789⟩⟩
theorem fpX6_init_42 : sd_Fp yX6_init 42 5 11 (.array .boolean) := ⟨(RX6, TX6, 19), "SofaDigModel$Plan", tyX6, rfl, by decide, rfl, in_X6, Or.inl rfl, tyX6_ok, nmX6, rfl, Or.inr ⟨rfl, rfl, rfl, q2791⟩⟩
theorem fpX6_init_45 : sd_Fp yX6_init 45 5 13 (.array .int) := ⟨(RX6, TX6, 19), "SofaDigModel$Plan", tyX6, rfl, by decide, rfl, in_X6, Or.inl rfl, tyX6_ok, nmX6, rfl, Or.inr ⟨rfl, rfl, rfl, q2794⟩⟩
theorem fpX6_init_48 : sd_Fp yX6_init 48 5 14 (.array .int) := ⟨(RX6, TX6, 19), "SofaDigModel$Plan", tyX6, rfl, by decide, rfl, in_X6, Or.inl rfl, tyX6_ok, nmX6, rfl, Or.inr ⟨rfl, rfl, rfl, q2796⟩⟩
theorem fpX6_init_51 : sd_Fp yX6_init 51 5 15 (.array .int) := ⟨(RX6, TX6, 19), "SofaDigModel$Plan", tyX6, rfl, by decide, rfl, in_X6, Or.inl rfl, tyX6_ok, nmX6, rfl, Or.inr ⟨rfl, rfl, rfl, q2798⟩⟩
theorem fpX6_init_54 : sd_Fp yX6_init 54 5 16 (.array .int) := ⟨(RX6, TX6, 19), "SofaDigModel$Plan", tyX6, rfl, by decide, rfl, in_X6, Or.inl rfl, tyX6_ok, nmX6, rfl, Or.inr ⟨rfl, rfl, rfl, q2800⟩⟩
theorem fpX6_init_57 : sd_Fp yX6_init 57 5 17 (.array .int) := ⟨(RX6, TX6, 19), "SofaDigModel$Plan", tyX6, rfl, by decide, rfl, in_X6, Or.inl rfl, tyX6_ok, nmX6, rfl, Or.inr ⟨rfl, rfl, rfl, q2802⟩⟩
theorem fdX6_39_5 : sd_Fd "SofaDigModel$Plan" 39 5 10 := ⟨(RX6, TX6, 19), "SofaDigModel$Plan", rfl, by decide, rfl, in_X6, Or.inl rfl, Or.inl q2789⟩
abbrev mX6_init : sd_Y := (yX6_init, cX6_init, 2, none, none)
def fX6_init_b123 (G : sd_G) (k123 : Nat × Int32 → sd_M Unit) (w0 : Nat) (w1 : Int32) : sd_M Unit :=
  if 80 ≤ w1 then (
    sd_ret ())
  else (
    sd_bnd (sd_getR G 5 10 w0) fun v14 =>
    sd_bnd (sd_astI 0 v14 w1 (-1)) fun _ =>
    sd_bnd (sd_ret (w1 + 1)) fun x15 =>
    k123 (w0, x15))
set_option maxHeartbeats 4000000 in
theorem sX6_init_b123 (l : Launch) (G : sd_G) (a0 : Nat) (ρ : Unit) (h2 : sd_H) (cT : Nat × Nat) (k123 : Nat × Int32 → sd_M Unit) (Hk123 : ∀ (q : Nat × Int32) (h : sd_H) (c : Nat × Nat), k123 q h = some (ρ, c, h2) → sd_J mX6_init ((l, G), (1, 12), [.ref a0], (sd_oV ρ, h2), cT) 123 [(0, .ref q.1), (1, .int q.2)] [] h c) (w0 : Nat) (w1 : Int32) (h : sd_H) (c : Nat × Nat) (hf : fX6_init_b123 G k123 w0 w1 h = some (ρ, c, h2)) : sd_J mX6_init ((l, G), (1, 12), [.ref a0], (sd_oV ρ, h2), cT) 123 [(0, .ref w0), (1, .int w1)] [] h c := by
  unfold fX6_init_b123 at hf
  refine sj_iload_n 1 dX6_init_123 rfl ?_
  refine sj_bipush (v := 80) dX6_init_124 (by decide) ?_
  refine sj_icge 142 hf dX6_init_126 (by decide) (fun g126 hf => ?_) (fun g126 hf => ?_)
  · exact sj_vret (o := sd_oV) hf rfl rfl rfl dX6_init_142
  · refine sj_aload_n 0 dX6_init_129 rfl ?_
    refine sj_getR fdX6_39_5 hf dX6_init_130 (fun v14 hf => ?_)
    refine sj_iload_n 1 dX6_init_133 rfl ?_
    refine sj_iconst (v := (-1)) dX6_init_134 (by decide) ?_
    refine sj_iast hf dX6_init_135 (fun h hf => ?_)
    refine sj_iincN 1 (fun x15 => [(1, .int x15), (0, .ref w0)]) 1 hf dX6_init_136 rfl (by decide) (by decide) (fun _ => rfl) (fun x15 hf => ?_)
    refine sj_goto 123 dX6_init_139 (by decide) ?_
    exact sj_loc [1, 0] rfl (Hk123 (w0, x15) _ _ hf)
theorem sX6_init_b123_loop (l : Launch) (G : sd_G) (a0 : Nat) (ρ : Unit) (h2 : sd_H) (cT : Nat × Nat) (n : Nat) : ∀ (q : Nat × Int32) (h : sd_H) (c : Nat × Nat), sd_loop (fun k s => fX6_init_b123 G k s.1 s.2) n q h = some (ρ, c, h2) → sd_J mX6_init ((l, G), (1, 12), [.ref a0], (sd_oV ρ, h2), cT) 123 [(0, .ref q.1), (1, .int q.2)] [] h c := by
  induction n with
  | zero => intro q h c hf; cases hf
  | succ n ih => intro q h c hf; exact sX6_init_b123 l G a0 ρ h2 cT _ ih _ _ _ _ hf
def fX6_init (G : sd_G) (a0 : Nat) : sd_M Unit :=
  sd_bnd (sd_put 5 0 .int a0 (.int 4)) fun _ =>
  sd_bnd (sd_put 5 1 .int a0 (.int 6)) fun _ =>
  sd_bnd (sd_newL 6) fun o1 =>
  sd_bnd (sd_put 5 3 (.array .long) a0 (.ref o1)) fun _ =>
  sd_bnd (sd_newI 0 6) fun o2 =>
  sd_bnd (sd_put 5 4 (.array .int) a0 (.ref o2)) fun _ =>
  sd_bnd (sd_newI 0 6) fun o3 =>
  sd_bnd (sd_put 5 5 (.array .int) a0 (.ref o3)) fun _ =>
  sd_bnd (sd_newI 3 24) fun o4 =>
  sd_bnd (sd_put 5 7 (.array .boolean) a0 (.ref o4)) fun _ =>
  sd_bnd (sd_newI 0 24) fun o5 =>
  sd_bnd (sd_put 5 8 (.array .int) a0 (.ref o5)) fun _ =>
  sd_bnd (sd_newI 0 24) fun o6 =>
  sd_bnd (sd_put 5 9 (.array .int) a0 (.ref o6)) fun _ =>
  sd_bnd (sd_newI 0 80) fun o7 =>
  sd_bnd (sd_put 5 10 (.array .int) a0 (.ref o7)) fun _ =>
  sd_bnd (sd_newI 3 80) fun o8 =>
  sd_bnd (sd_put 5 11 (.array .boolean) a0 (.ref o8)) fun _ =>
  sd_bnd (sd_newI 0 16) fun o9 =>
  sd_bnd (sd_put 5 13 (.array .int) a0 (.ref o9)) fun _ =>
  sd_bnd (sd_newI 0 32) fun o10 =>
  sd_bnd (sd_put 5 14 (.array .int) a0 (.ref o10)) fun _ =>
  sd_bnd (sd_newI 0 32) fun o11 =>
  sd_bnd (sd_put 5 15 (.array .int) a0 (.ref o11)) fun _ =>
  sd_bnd (sd_newI 0 800) fun o12 =>
  sd_bnd (sd_put 5 16 (.array .int) a0 (.ref o12)) fun _ =>
  sd_bnd (sd_newI 0 800) fun o13 =>
  sd_bnd (sd_put 5 17 (.array .int) a0 (.ref o13)) fun _ =>
  sd_loop (fun k s => fX6_init_b123 G k s.1 s.2) sd_FU (a0, 0)
set_option maxHeartbeats 4000000 in
theorem sX6_init (l : Launch) (G : sd_G) (a0 : Nat) (h : sd_H) (ρ : Unit) (cT : Nat × Nat) (h2 : sd_H) (hf : fX6_init G a0 h = some (ρ, cT, h2)) : sd_Met mX6_init ((l, G), (1, 12), [.ref a0], (sd_oV ρ, h2), cT) h := by
  refine sd_entry (plainFor_of_name rfl) rfl (Nat.le_of_ble_eq_true rfl) ?_
  show sd_J mX6_init ((l, G), (1, 12), [.ref a0], (sd_oV ρ, h2), cT) 0 [(0, .ref a0)] [] h cT
  unfold fX6_init at hf
  refine sj_aload_n 0 dX6_init_0 rfl ?_
  refine sj_objInit q2770 q188 q189 (Nat.le_of_ble_eq_true rfl) (Nat.le_of_ble_eq_true rfl) dX6_init_1 ?_
  refine sj_aload_n 0 dX6_init_4 rfl ?_
  refine sj_iconst (v := 4) dX6_init_5 (by decide) ?_
  refine sj_put (fpX6_9_5 _ _) hf dX6_init_6 (fun h hf => ?_)
  refine sj_aload_n 0 dX6_init_9 rfl ?_
  refine sj_bipush (v := 6) dX6_init_10 (by decide) ?_
  refine sj_put (fpX6_15_5 _ _) hf dX6_init_12 (fun h hf => ?_)
  refine sj_aload_n 0 dX6_init_15 rfl ?_
  refine sj_bipush (v := 6) dX6_init_16 (by decide) ?_
  refine sj_newL q2844 hf dX6_init_18 (fun o1 h c hf => ?_)
  refine sj_put fpX6_init_18 hf dX6_init_20 (fun h hf => ?_)
  refine sj_aload_n 0 dX6_init_23 rfl ?_
  refine sj_bipush (v := 6) dX6_init_24 (by decide) ?_
  refine sj_newI (atype := .int) q300 rfl rfl (by decide) sd_p0 hf dX6_init_26 (fun o2 h c hf => ?_)
  refine sj_put fpX6_init_22 hf dX6_init_28 (fun h hf => ?_)
  refine sj_aload_n 0 dX6_init_31 rfl ?_
  refine sj_bipush (v := 6) dX6_init_32 (by decide) ?_
  refine sj_newI (atype := .int) q300 rfl rfl (by decide) sd_p0 hf dX6_init_34 (fun o3 h c hf => ?_)
  refine sj_put fpX6_init_26 hf dX6_init_36 (fun h hf => ?_)
  refine sj_aload_n 0 dX6_init_39 rfl ?_
  refine sj_bipush (v := 24) dX6_init_40 (by decide) ?_
  refine sj_newI (atype := .boolean) q2845 rfl rfl (by decide) sd_p3 hf dX6_init_42 (fun o4 h c hf => ?_)
  refine sj_put fpX6_init_29 hf dX6_init_44 (fun h hf => ?_)
  refine sj_aload_n 0 dX6_init_47 rfl ?_
  refine sj_bipush (v := 24) dX6_init_48 (by decide) ?_
  refine sj_newI (atype := .int) q300 rfl rfl (by decide) sd_p0 hf dX6_init_50 (fun o5 h c hf => ?_)
  refine sj_put fpX6_init_33 hf dX6_init_52 (fun h hf => ?_)
  refine sj_aload_n 0 dX6_init_55 rfl ?_
  refine sj_bipush (v := 24) dX6_init_56 (by decide) ?_
  refine sj_newI (atype := .int) q300 rfl rfl (by decide) sd_p0 hf dX6_init_58 (fun o6 h c hf => ?_)
  refine sj_put fpX6_init_36 hf dX6_init_60 (fun h hf => ?_)
  refine sj_aload_n 0 dX6_init_63 rfl ?_
  refine sj_bipush (v := 80) dX6_init_64 (by decide) ?_
  refine sj_newI (atype := .int) q300 rfl rfl (by decide) sd_p0 hf dX6_init_66 (fun o7 h c hf => ?_)
  refine sj_put fpX6_init_39 hf dX6_init_68 (fun h hf => ?_)
  refine sj_aload_n 0 dX6_init_71 rfl ?_
  refine sj_bipush (v := 80) dX6_init_72 (by decide) ?_
  refine sj_newI (atype := .boolean) q2845 rfl rfl (by decide) sd_p3 hf dX6_init_74 (fun o8 h c hf => ?_)
  refine sj_put fpX6_init_42 hf dX6_init_76 (fun h hf => ?_)
  refine sj_aload_n 0 dX6_init_79 rfl ?_
  refine sj_bipush (v := 16) dX6_init_80 (by decide) ?_
  refine sj_newI (atype := .int) q300 rfl rfl (by decide) sd_p0 hf dX6_init_82 (fun o9 h c hf => ?_)
  refine sj_put fpX6_init_45 hf dX6_init_84 (fun h hf => ?_)
  refine sj_aload_n 0 dX6_init_87 rfl ?_
  refine sj_bipush (v := 32) dX6_init_88 (by decide) ?_
  refine sj_newI (atype := .int) q300 rfl rfl (by decide) sd_p0 hf dX6_init_90 (fun o10 h c hf => ?_)
  refine sj_put fpX6_init_48 hf dX6_init_92 (fun h hf => ?_)
  refine sj_aload_n 0 dX6_init_95 rfl ?_
  refine sj_bipush (v := 32) dX6_init_96 (by decide) ?_
  refine sj_newI (atype := .int) q300 rfl rfl (by decide) sd_p0 hf dX6_init_98 (fun o11 h c hf => ?_)
  refine sj_put fpX6_init_51 hf dX6_init_100 (fun h hf => ?_)
  refine sj_aload_n 0 dX6_init_103 rfl ?_
  refine sj_sipush (v := 800) dX6_init_104 (by decide) ?_
  refine sj_newI (atype := .int) q300 rfl rfl (by decide) sd_p0 hf dX6_init_107 (fun o12 h c hf => ?_)
  refine sj_put fpX6_init_54 hf dX6_init_109 (fun h hf => ?_)
  refine sj_aload_n 0 dX6_init_112 rfl ?_
  refine sj_sipush (v := 800) dX6_init_113 (by decide) ?_
  refine sj_newI (atype := .int) q300 rfl rfl (by decide) sd_p0 hf dX6_init_116 (fun o13 h c hf => ?_)
  refine sj_put fpX6_init_57 hf dX6_init_118 (fun h hf => ?_)
  refine sj_iconst (v := 0) dX6_init_121 (by decide) ?_
  refine sj_istore_n [(1, .int 0), (0, .ref a0)] dX6_init_122 (by decide) rfl ?_
  exact sj_loc [1, 0] rfl (sX6_init_b123_loop l G a0 ρ h2 cT sd_FU (a0, 0) _ _ hf)
/-! SofaDigModel.fill()V -/
abbrev cX5_fill : ByteArray := prog_46_method_2_code
def yX5_fill : MethodName := ⟨RX5, "fill", "()V"⟩
def dkwX5_fill_4 : List UInt8 := [167, 255, 188, 177]
abbrev dktX5_fill_4 : List UInt8 := dkwX5_fill_4 ++ []
def dkwX5_fill_3 : List UInt8 := [16, 10, 27, 104, 96, 28, 96, 16, 10, 27, 104, 28, 96, 79, 132, 2, 1, 167, 255, 222, 132, 1, 1]
abbrev dktX5_fill_3 : List UInt8 := dkwX5_fill_3 ++ dktX5_fill_4
def dkwX5_fill_2 : List UInt8 := [180, 0, 55, 79, 3, 61, 28, 42, 180, 0, 20, 180, 0, 55, 162, 0, 29, 42, 180, 0, 40, 16, 13]
abbrev dktX5_fill_2 : List UInt8 := dkwX5_fill_2 ++ dktX5_fill_3
def dkwX5_fill_1 : List UInt8 := [27, 42, 180, 0, 20, 180, 0, 52, 162, 0, 63, 42, 180, 0, 40, 8, 27, 96, 42, 180, 0, 20]
abbrev dktX5_fill_1 : List UInt8 := dkwX5_fill_1 ++ dktX5_fill_2
def dkwX5_fill_0 : List UInt8 := [3, 60, 27, 17, 0, 197, 162, 0, 16, 42, 180, 0, 40, 27, 3, 79, 132, 1, 1, 167, 255, 239, 3, 60]
abbrev dktX5_fill_0 : List UInt8 := dkwX5_fill_0 ++ dktX5_fill_1
theorem dksX5_fill_0 : cX5_fill.data.toList.drop 0 = dktX5_fill_0 := by decide +kernel
theorem dksX5_fill_1 : cX5_fill.data.toList.drop 24 = dktX5_fill_1 := dk_seg dksX5_fill_0 24 rfl rfl
theorem dksX5_fill_2 : cX5_fill.data.toList.drop 46 = dktX5_fill_2 := dk_seg dksX5_fill_1 22 rfl rfl
theorem dksX5_fill_3 : cX5_fill.data.toList.drop 69 = dktX5_fill_3 := dk_seg dksX5_fill_2 23 rfl rfl
theorem dksX5_fill_4 : cX5_fill.data.toList.drop 92 = dktX5_fill_4 := dk_seg dksX5_fill_3 23 rfl rfl
theorem dX5_fill_0 : decode cX5_fill 0 = .ok (.iconst 0, 1) := dk_3 (dk_at dksX5_fill_0 0 rfl rfl)
theorem dX5_fill_1 : decode cX5_fill 1 = .ok (.istore_n 1, 1) := dk_60 (dk_at dksX5_fill_0 1 rfl rfl)
theorem dX5_fill_2 : decode cX5_fill 2 = .ok (.iload_n 1, 1) := dk_27 (dk_at dksX5_fill_0 2 rfl rfl)
theorem dX5_fill_3 : decode cX5_fill 3 = .ok (.sipush 197, 3) := dk_17 0 197 (dk_at dksX5_fill_0 3 rfl rfl)
theorem dX5_fill_6 : decode cX5_fill 6 = .ok (.if_icmp .ge 16, 3) := dk_162 0 16 (dk_at dksX5_fill_0 6 rfl rfl)
theorem dX5_fill_9 : decode cX5_fill 9 = .ok (.aload_n 0, 1) := dk_42 (dk_at dksX5_fill_0 9 rfl rfl)
theorem dX5_fill_10 : decode cX5_fill 10 = .ok (.getfield 40, 3) := dk_180 0 40 (dk_at dksX5_fill_0 10 rfl rfl)
theorem dX5_fill_13 : decode cX5_fill 13 = .ok (.iload_n 1, 1) := dk_27 (dk_at dksX5_fill_0 13 rfl rfl)
theorem dX5_fill_14 : decode cX5_fill 14 = .ok (.iconst 0, 1) := dk_3 (dk_at dksX5_fill_0 14 rfl rfl)
theorem dX5_fill_15 : decode cX5_fill 15 = .ok (.iastore, 1) := dk_79 (dk_at dksX5_fill_0 15 rfl rfl)
theorem dX5_fill_16 : decode cX5_fill 16 = .ok (.iinc 1 1, 3) := dk_132 1 1 (dk_at dksX5_fill_0 16 rfl rfl)
theorem dX5_fill_19 : decode cX5_fill 19 = .ok (.goto (-17), 3) := dk_167 255 239 (dk_at dksX5_fill_0 19 rfl rfl)
theorem dX5_fill_22 : decode cX5_fill 22 = .ok (.iconst 0, 1) := dk_3 (dk_at dksX5_fill_0 22 rfl rfl)
theorem dX5_fill_23 : decode cX5_fill 23 = .ok (.istore_n 1, 1) := dk_60 (dk_at dksX5_fill_0 23 rfl rfl)
theorem dX5_fill_24 : decode cX5_fill 24 = .ok (.iload_n 1, 1) := dk_27 (dk_at dksX5_fill_1 0 rfl rfl)
theorem dX5_fill_25 : decode cX5_fill 25 = .ok (.aload_n 0, 1) := dk_42 (dk_at dksX5_fill_1 1 rfl rfl)
theorem dX5_fill_26 : decode cX5_fill 26 = .ok (.getfield 20, 3) := dk_180 0 20 (dk_at dksX5_fill_1 2 rfl rfl)
theorem dX5_fill_29 : decode cX5_fill 29 = .ok (.getfield 52, 3) := dk_180 0 52 (dk_at dksX5_fill_1 5 rfl rfl)
theorem dX5_fill_32 : decode cX5_fill 32 = .ok (.if_icmp .ge 63, 3) := dk_162 0 63 (dk_at dksX5_fill_1 8 rfl rfl)
theorem dX5_fill_35 : decode cX5_fill 35 = .ok (.aload_n 0, 1) := dk_42 (dk_at dksX5_fill_1 11 rfl rfl)
theorem dX5_fill_36 : decode cX5_fill 36 = .ok (.getfield 40, 3) := dk_180 0 40 (dk_at dksX5_fill_1 12 rfl rfl)
theorem dX5_fill_39 : decode cX5_fill 39 = .ok (.iconst 5, 1) := dk_8 (dk_at dksX5_fill_1 15 rfl rfl)
theorem dX5_fill_40 : decode cX5_fill 40 = .ok (.iload_n 1, 1) := dk_27 (dk_at dksX5_fill_1 16 rfl rfl)
theorem dX5_fill_41 : decode cX5_fill 41 = .ok (.iadd, 1) := dk_96 (dk_at dksX5_fill_1 17 rfl rfl)
theorem dX5_fill_42 : decode cX5_fill 42 = .ok (.aload_n 0, 1) := dk_42 (dk_at dksX5_fill_1 18 rfl rfl)
theorem dX5_fill_43 : decode cX5_fill 43 = .ok (.getfield 20, 3) := dk_180 0 20 (dk_at dksX5_fill_1 19 rfl rfl)
theorem dX5_fill_46 : decode cX5_fill 46 = .ok (.getfield 55, 3) := dk_180 0 55 (dk_at dksX5_fill_2 0 rfl rfl)
theorem dX5_fill_49 : decode cX5_fill 49 = .ok (.iastore, 1) := dk_79 (dk_at dksX5_fill_2 3 rfl rfl)
theorem dX5_fill_50 : decode cX5_fill 50 = .ok (.iconst 0, 1) := dk_3 (dk_at dksX5_fill_2 4 rfl rfl)
theorem dX5_fill_51 : decode cX5_fill 51 = .ok (.istore_n 2, 1) := dk_61 (dk_at dksX5_fill_2 5 rfl rfl)
theorem dX5_fill_52 : decode cX5_fill 52 = .ok (.iload_n 2, 1) := dk_28 (dk_at dksX5_fill_2 6 rfl rfl)
theorem dX5_fill_53 : decode cX5_fill 53 = .ok (.aload_n 0, 1) := dk_42 (dk_at dksX5_fill_2 7 rfl rfl)
theorem dX5_fill_54 : decode cX5_fill 54 = .ok (.getfield 20, 3) := dk_180 0 20 (dk_at dksX5_fill_2 8 rfl rfl)
theorem dX5_fill_57 : decode cX5_fill 57 = .ok (.getfield 55, 3) := dk_180 0 55 (dk_at dksX5_fill_2 11 rfl rfl)
theorem dX5_fill_60 : decode cX5_fill 60 = .ok (.if_icmp .ge 29, 3) := dk_162 0 29 (dk_at dksX5_fill_2 14 rfl rfl)
theorem dX5_fill_63 : decode cX5_fill 63 = .ok (.aload_n 0, 1) := dk_42 (dk_at dksX5_fill_2 17 rfl rfl)
theorem dX5_fill_64 : decode cX5_fill 64 = .ok (.getfield 40, 3) := dk_180 0 40 (dk_at dksX5_fill_2 18 rfl rfl)
theorem dX5_fill_67 : decode cX5_fill 67 = .ok (.bipush 13, 2) := dk_16 13 (dk_at dksX5_fill_2 21 rfl rfl)
theorem dX5_fill_69 : decode cX5_fill 69 = .ok (.bipush 10, 2) := dk_16 10 (dk_at dksX5_fill_3 0 rfl rfl)
theorem dX5_fill_71 : decode cX5_fill 71 = .ok (.iload_n 1, 1) := dk_27 (dk_at dksX5_fill_3 2 rfl rfl)
theorem dX5_fill_72 : decode cX5_fill 72 = .ok (.imul, 1) := dk_104 (dk_at dksX5_fill_3 3 rfl rfl)
theorem dX5_fill_73 : decode cX5_fill 73 = .ok (.iadd, 1) := dk_96 (dk_at dksX5_fill_3 4 rfl rfl)
theorem dX5_fill_74 : decode cX5_fill 74 = .ok (.iload_n 2, 1) := dk_28 (dk_at dksX5_fill_3 5 rfl rfl)
theorem dX5_fill_75 : decode cX5_fill 75 = .ok (.iadd, 1) := dk_96 (dk_at dksX5_fill_3 6 rfl rfl)
theorem dX5_fill_76 : decode cX5_fill 76 = .ok (.bipush 10, 2) := dk_16 10 (dk_at dksX5_fill_3 7 rfl rfl)
theorem dX5_fill_78 : decode cX5_fill 78 = .ok (.iload_n 1, 1) := dk_27 (dk_at dksX5_fill_3 9 rfl rfl)
theorem dX5_fill_79 : decode cX5_fill 79 = .ok (.imul, 1) := dk_104 (dk_at dksX5_fill_3 10 rfl rfl)
theorem dX5_fill_80 : decode cX5_fill 80 = .ok (.iload_n 2, 1) := dk_28 (dk_at dksX5_fill_3 11 rfl rfl)
theorem dX5_fill_81 : decode cX5_fill 81 = .ok (.iadd, 1) := dk_96 (dk_at dksX5_fill_3 12 rfl rfl)
theorem dX5_fill_82 : decode cX5_fill 82 = .ok (.iastore, 1) := dk_79 (dk_at dksX5_fill_3 13 rfl rfl)
theorem dX5_fill_83 : decode cX5_fill 83 = .ok (.iinc 2 1, 3) := dk_132 2 1 (dk_at dksX5_fill_3 14 rfl rfl)
theorem dX5_fill_86 : decode cX5_fill 86 = .ok (.goto (-34), 3) := dk_167 255 222 (dk_at dksX5_fill_3 17 rfl rfl)
theorem dX5_fill_89 : decode cX5_fill 89 = .ok (.iinc 1 1, 3) := dk_132 1 1 (dk_at dksX5_fill_3 20 rfl rfl)
theorem dX5_fill_92 : decode cX5_fill 92 = .ok (.goto (-68), 3) := dk_167 255 188 (dk_at dksX5_fill_4 0 rfl rfl)
theorem dX5_fill_95 : decode cX5_fill 95 = .ok (.return_, 1) := dk_177 (dk_at dksX5_fill_4 3 rfl rfl)
theorem fdX5_20_4 : sd_Fd "SofaDigModel" 20 4 4 := ⟨(RX5, TX5, 18), "SofaDigModel", rfl, by decide, rfl, in_X5, Or.inl rfl, Or.inl q2854⟩
theorem fdX5_52_5 : sd_Fd "SofaDigModel" 52 5 0 := ⟨(RX6, TX6, 19), "SofaDigModel$Plan", rfl, by decide, rfl, in_X6, Or.inl rfl, Or.inr ⟨_, q2772⟩⟩
theorem fdX5_40_4 : sd_Fd "SofaDigModel" 40 4 15 := ⟨(RX5, TX5, 18), "SofaDigModel", rfl, by decide, rfl, in_X5, Or.inl rfl, Or.inl q2865⟩
theorem fdX5_55_5 : sd_Fd "SofaDigModel" 55 5 1 := ⟨(RX6, TX6, 19), "SofaDigModel$Plan", rfl, by decide, rfl, in_X6, Or.inl rfl, Or.inr ⟨_, q2774⟩⟩
abbrev mX5_fill : sd_Y := (yX5_fill, cX5_fill, 3, none, none)
def fX5_fill_b52 (G : sd_G) (k24 : Nat × Int32 → sd_M Unit) (k52 : Nat × Int32 × Int32 → sd_M Unit) (w0 : Nat) (w1 : Int32) (w2 : Int32) : sd_M Unit :=
  sd_bnd (sd_getR G 4 4 w0) fun v6 =>
  sd_bnd (sd_getI G 5 1 v6) fun v7 =>
  if v7 ≤ w2 then (
    sd_bnd (sd_ret (w1 + 1)) fun x8 =>
    k24 (w0, x8))
  else (
    sd_bnd (sd_getR G 4 15 w0) fun v9 =>
    sd_bnd (sd_astI 0 v9 (((13 : Int32) + ((10 : Int32) * w1)) + w2) (((10 : Int32) * w1) + w2)) fun _ =>
    sd_bnd (sd_ret (w2 + 1)) fun x10 =>
    k52 (w0, w1, x10))
set_option maxHeartbeats 4000000 in
theorem sX5_fill_b52 (l : Launch) (G : sd_G) (a0 : Nat) (ρ : Unit) (h2 : sd_H) (cT : Nat × Nat) (k24 : Nat × Int32 → sd_M Unit) (Hk24 : ∀ (q : Nat × Int32) (h : sd_H) (c : Nat × Nat), k24 q h = some (ρ, c, h2) → sd_J mX5_fill ((l, G), (0, 0), [.ref a0], (sd_oV ρ, h2), cT) 24 [(0, .ref q.1), (1, .int q.2)] [] h c) (k52 : Nat × Int32 × Int32 → sd_M Unit) (Hk52 : ∀ (q : Nat × Int32 × Int32) (h : sd_H) (c : Nat × Nat), k52 q h = some (ρ, c, h2) → sd_J mX5_fill ((l, G), (0, 0), [.ref a0], (sd_oV ρ, h2), cT) 52 [(0, .ref q.1), (1, .int q.2.1), (2, .int q.2.2)] [] h c) (w0 : Nat) (w1 : Int32) (w2 : Int32) (h : sd_H) (c : Nat × Nat) (hf : fX5_fill_b52 G k24 k52 w0 w1 w2 h = some (ρ, c, h2)) : sd_J mX5_fill ((l, G), (0, 0), [.ref a0], (sd_oV ρ, h2), cT) 52 [(0, .ref w0), (1, .int w1), (2, .int w2)] [] h c := by
  unfold fX5_fill_b52 at hf
  refine sj_iload_n 2 dX5_fill_52 rfl ?_
  refine sj_aload_n 0 dX5_fill_53 rfl ?_
  refine sj_getR fdX5_20_4 hf dX5_fill_54 (fun v6 hf => ?_)
  refine sj_getI fdX5_55_5 hf dX5_fill_57 (fun v7 hf => ?_)
  refine sj_icge 89 hf dX5_fill_60 (by decide) (fun g60 hf => ?_) (fun g60 hf => ?_)
  · refine sj_iincN 1 (fun x8 => [(1, .int x8), (0, .ref w0), (2, .int w2)]) 1 hf dX5_fill_89 rfl (by decide) (by decide) (fun _ => rfl) (fun x8 hf => ?_)
    refine sj_goto 24 dX5_fill_92 (by decide) ?_
    exact sj_loc [1, 0] rfl (Hk24 (w0, x8) _ _ hf)
  · refine sj_aload_n 0 dX5_fill_63 rfl ?_
    refine sj_getR fdX5_40_4 hf dX5_fill_64 (fun v9 hf => ?_)
    refine sj_bipush (v := 13) dX5_fill_67 (by decide) ?_
    refine sj_bipush (v := 10) dX5_fill_69 (by decide) ?_
    refine sj_iload_n 1 dX5_fill_71 rfl ?_
    refine sj_imul dX5_fill_72 ?_
    refine sj_iadd dX5_fill_73 ?_
    refine sj_iload_n 2 dX5_fill_74 rfl ?_
    refine sj_iadd dX5_fill_75 ?_
    refine sj_bipush (v := 10) dX5_fill_76 (by decide) ?_
    refine sj_iload_n 1 dX5_fill_78 rfl ?_
    refine sj_imul dX5_fill_79 ?_
    refine sj_iload_n 2 dX5_fill_80 rfl ?_
    refine sj_iadd dX5_fill_81 ?_
    refine sj_iast hf dX5_fill_82 (fun h hf => ?_)
    refine sj_iincN 2 (fun x10 => [(2, .int x10), (0, .ref w0), (1, .int w1)]) 1 hf dX5_fill_83 rfl (by decide) (by decide) (fun _ => rfl) (fun x10 hf => ?_)
    refine sj_goto 52 dX5_fill_86 (by decide) ?_
    exact sj_loc [1, 2, 0] rfl (Hk52 (w0, w1, x10) _ _ hf)
theorem sX5_fill_b52_loop (l : Launch) (G : sd_G) (a0 : Nat) (ρ : Unit) (h2 : sd_H) (cT : Nat × Nat) (k24 : Nat × Int32 → sd_M Unit) (Hk24 : ∀ (q : Nat × Int32) (h : sd_H) (c : Nat × Nat), k24 q h = some (ρ, c, h2) → sd_J mX5_fill ((l, G), (0, 0), [.ref a0], (sd_oV ρ, h2), cT) 24 [(0, .ref q.1), (1, .int q.2)] [] h c) (n : Nat) : ∀ (q : Nat × Int32 × Int32) (h : sd_H) (c : Nat × Nat), sd_loop (fun k s => fX5_fill_b52 G k24 k s.1 s.2.1 s.2.2) n q h = some (ρ, c, h2) → sd_J mX5_fill ((l, G), (0, 0), [.ref a0], (sd_oV ρ, h2), cT) 52 [(0, .ref q.1), (1, .int q.2.1), (2, .int q.2.2)] [] h c := by
  induction n with
  | zero => intro q h c hf; cases hf
  | succ n ih => intro q h c hf; exact sX5_fill_b52 l G a0 ρ h2 cT k24 Hk24 _ ih _ _ _ _ _ hf
def fX5_fill_b24 (G : sd_G) (k24 : Nat × Int32 → sd_M Unit) (w0 : Nat) (w1 : Int32) : sd_M Unit :=
  sd_bnd (sd_getR G 4 4 w0) fun v1 =>
  sd_bnd (sd_getI G 5 0 v1) fun v2 =>
  if v2 ≤ w1 then (
    sd_ret ())
  else (
    sd_bnd (sd_getR G 4 15 w0) fun v3 =>
    sd_bnd (sd_getR G 4 4 w0) fun v4 =>
    sd_bnd (sd_getI G 5 1 v4) fun v5 =>
    sd_bnd (sd_astI 0 v3 ((5 : Int32) + w1) v5) fun _ =>
    sd_loop (fun k s => fX5_fill_b52 G k24 k s.1 s.2.1 s.2.2) sd_FU (w0, w1, 0))
set_option maxHeartbeats 4000000 in
theorem sX5_fill_b24 (l : Launch) (G : sd_G) (a0 : Nat) (ρ : Unit) (h2 : sd_H) (cT : Nat × Nat) (k24 : Nat × Int32 → sd_M Unit) (Hk24 : ∀ (q : Nat × Int32) (h : sd_H) (c : Nat × Nat), k24 q h = some (ρ, c, h2) → sd_J mX5_fill ((l, G), (0, 0), [.ref a0], (sd_oV ρ, h2), cT) 24 [(0, .ref q.1), (1, .int q.2)] [] h c) (w0 : Nat) (w1 : Int32) (h : sd_H) (c : Nat × Nat) (hf : fX5_fill_b24 G k24 w0 w1 h = some (ρ, c, h2)) : sd_J mX5_fill ((l, G), (0, 0), [.ref a0], (sd_oV ρ, h2), cT) 24 [(0, .ref w0), (1, .int w1)] [] h c := by
  unfold fX5_fill_b24 at hf
  refine sj_iload_n 1 dX5_fill_24 rfl ?_
  refine sj_aload_n 0 dX5_fill_25 rfl ?_
  refine sj_getR fdX5_20_4 hf dX5_fill_26 (fun v1 hf => ?_)
  refine sj_getI fdX5_52_5 hf dX5_fill_29 (fun v2 hf => ?_)
  refine sj_icge 95 hf dX5_fill_32 (by decide) (fun g32 hf => ?_) (fun g32 hf => ?_)
  · exact sj_vret (o := sd_oV) hf rfl rfl rfl dX5_fill_95
  · refine sj_aload_n 0 dX5_fill_35 rfl ?_
    refine sj_getR fdX5_40_4 hf dX5_fill_36 (fun v3 hf => ?_)
    refine sj_iconst (v := 5) dX5_fill_39 (by decide) ?_
    refine sj_iload_n 1 dX5_fill_40 rfl ?_
    refine sj_iadd dX5_fill_41 ?_
    refine sj_aload_n 0 dX5_fill_42 rfl ?_
    refine sj_getR fdX5_20_4 hf dX5_fill_43 (fun v4 hf => ?_)
    refine sj_getI fdX5_55_5 hf dX5_fill_46 (fun v5 hf => ?_)
    refine sj_iast hf dX5_fill_49 (fun h hf => ?_)
    refine sj_iconst (v := 0) dX5_fill_50 (by decide) ?_
    refine sj_istore_n [(2, .int 0), (0, .ref w0), (1, .int w1)] dX5_fill_51 (by decide) rfl ?_
    exact sj_loc [1, 2, 0] rfl (sX5_fill_b52_loop l G a0 ρ h2 cT k24 Hk24 sd_FU (w0, w1, 0) _ _ hf)
theorem sX5_fill_b24_loop (l : Launch) (G : sd_G) (a0 : Nat) (ρ : Unit) (h2 : sd_H) (cT : Nat × Nat) (n : Nat) : ∀ (q : Nat × Int32) (h : sd_H) (c : Nat × Nat), sd_loop (fun k s => fX5_fill_b24 G k s.1 s.2) n q h = some (ρ, c, h2) → sd_J mX5_fill ((l, G), (0, 0), [.ref a0], (sd_oV ρ, h2), cT) 24 [(0, .ref q.1), (1, .int q.2)] [] h c := by
  induction n with
  | zero => intro q h c hf; cases hf
  | succ n ih => intro q h c hf; exact sX5_fill_b24 l G a0 ρ h2 cT _ ih _ _ _ _ hf
def fX5_fill_b2 (G : sd_G) (k2 : Nat × Int32 → sd_M Unit) (w0 : Nat) (w1 : Int32) : sd_M Unit :=
  if 197 ≤ w1 then (
    sd_loop (fun k s => fX5_fill_b24 G k s.1 s.2) sd_FU (w0, 0))
  else (
    sd_bnd (sd_getR G 4 15 w0) fun v11 =>
    sd_bnd (sd_astI 0 v11 w1 0) fun _ =>
    sd_bnd (sd_ret (w1 + 1)) fun x12 =>
    k2 (w0, x12))
set_option maxHeartbeats 4000000 in
theorem sX5_fill_b2 (l : Launch) (G : sd_G) (a0 : Nat) (ρ : Unit) (h2 : sd_H) (cT : Nat × Nat) (k2 : Nat × Int32 → sd_M Unit) (Hk2 : ∀ (q : Nat × Int32) (h : sd_H) (c : Nat × Nat), k2 q h = some (ρ, c, h2) → sd_J mX5_fill ((l, G), (0, 0), [.ref a0], (sd_oV ρ, h2), cT) 2 [(0, .ref q.1), (1, .int q.2)] [] h c) (w0 : Nat) (w1 : Int32) (h : sd_H) (c : Nat × Nat) (hf : fX5_fill_b2 G k2 w0 w1 h = some (ρ, c, h2)) : sd_J mX5_fill ((l, G), (0, 0), [.ref a0], (sd_oV ρ, h2), cT) 2 [(0, .ref w0), (1, .int w1)] [] h c := by
  unfold fX5_fill_b2 at hf
  refine sj_iload_n 1 dX5_fill_2 rfl ?_
  refine sj_sipush (v := 197) dX5_fill_3 (by decide) ?_
  refine sj_icge 22 hf dX5_fill_6 (by decide) (fun g6 hf => ?_) (fun g6 hf => ?_)
  · refine sj_iconst (v := 0) dX5_fill_22 (by decide) ?_
    refine sj_istore_n [(1, .int 0), (0, .ref w0)] dX5_fill_23 (by decide) rfl ?_
    exact sj_loc [1, 0] rfl (sX5_fill_b24_loop l G a0 ρ h2 cT sd_FU (w0, 0) _ _ hf)
  · refine sj_aload_n 0 dX5_fill_9 rfl ?_
    refine sj_getR fdX5_40_4 hf dX5_fill_10 (fun v11 hf => ?_)
    refine sj_iload_n 1 dX5_fill_13 rfl ?_
    refine sj_iconst (v := 0) dX5_fill_14 (by decide) ?_
    refine sj_iast hf dX5_fill_15 (fun h hf => ?_)
    refine sj_iincN 1 (fun x12 => [(1, .int x12), (0, .ref w0)]) 1 hf dX5_fill_16 rfl (by decide) (by decide) (fun _ => rfl) (fun x12 hf => ?_)
    refine sj_goto 2 dX5_fill_19 (by decide) ?_
    exact sj_loc [1, 0] rfl (Hk2 (w0, x12) _ _ hf)
theorem sX5_fill_b2_loop (l : Launch) (G : sd_G) (a0 : Nat) (ρ : Unit) (h2 : sd_H) (cT : Nat × Nat) (n : Nat) : ∀ (q : Nat × Int32) (h : sd_H) (c : Nat × Nat), sd_loop (fun k s => fX5_fill_b2 G k s.1 s.2) n q h = some (ρ, c, h2) → sd_J mX5_fill ((l, G), (0, 0), [.ref a0], (sd_oV ρ, h2), cT) 2 [(0, .ref q.1), (1, .int q.2)] [] h c := by
  induction n with
  | zero => intro q h c hf; cases hf
  | succ n ih => intro q h c hf; exact sX5_fill_b2 l G a0 ρ h2 cT _ ih _ _ _ _ hf
def fX5_fill (G : sd_G) (a0 : Nat) : sd_M Unit :=
  sd_loop (fun k s => fX5_fill_b2 G k s.1 s.2) sd_FU (a0, 0)
set_option maxHeartbeats 4000000 in
theorem sX5_fill (l : Launch) (G : sd_G) (a0 : Nat) (h : sd_H) (ρ : Unit) (cT : Nat × Nat) (h2 : sd_H) (hf : fX5_fill G a0 h = some (ρ, cT, h2)) : sd_Met mX5_fill ((l, G), (0, 0), [.ref a0], (sd_oV ρ, h2), cT) h := by
  refine sd_entry (plainFor_of_name rfl) rfl (Nat.le_of_ble_eq_true rfl) ?_
  show sd_J mX5_fill ((l, G), (0, 0), [.ref a0], (sd_oV ρ, h2), cT) 0 [(0, .ref a0)] [] h cT
  unfold fX5_fill at hf
  refine sj_iconst (v := 0) dX5_fill_0 (by decide) ?_
  refine sj_istore_n [(1, .int 0), (0, .ref a0)] dX5_fill_1 (by decide) rfl ?_
  exact sj_loc [1, 0] rfl (sX5_fill_b2_loop l G a0 ρ h2 cT sd_FU (a0, 0) _ _ hf)
/-! SofaDigModel.<init>()V -/
abbrev cX5_init : ByteArray := prog_46_method_1_code
def yX5_init : MethodName := ⟨RX5, "<init>", "()V"⟩
def dkwX5_init_4 : List UInt8 := [17, 3, 32, 188, 10, 181, 0, 46, 42, 182, 0, 49, 177]
abbrev dktX5_init_4 : List UInt8 := dkwX5_init_4 ++ []
def dkwX5_init_3 : List UInt8 := [181, 0, 37, 42, 17, 0, 197, 188, 10, 181, 0, 40, 42, 17, 0, 197, 188, 10, 181, 0, 43, 42]
abbrev dktX5_init_3 : List UInt8 := dkwX5_init_3 ++ dktX5_init_4
def dkwX5_init_2 : List UInt8 := [42, 17, 1, 145, 188, 10, 181, 0, 30, 42, 17, 1, 145, 188, 11, 181, 0, 33, 42, 17, 1, 145, 188, 10]
abbrev dktX5_init_2 : List UInt8 := dkwX5_init_2 ++ dktX5_init_3
def dkwX5_init_1 : List UInt8 := [183, 0, 19, 181, 0, 20, 42, 17, 1, 145, 188, 10, 181, 0, 24, 42, 17, 1, 145, 188, 10, 181, 0, 27]
abbrev dktX5_init_1 : List UInt8 := dkwX5_init_1 ++ dktX5_init_2
def dkwX5_init_0 : List UInt8 := [42, 183, 0, 3, 42, 17, 7, 208, 188, 10, 181, 0, 9, 42, 2, 181, 0, 13, 42, 187, 0, 17, 89]
abbrev dktX5_init_0 : List UInt8 := dkwX5_init_0 ++ dktX5_init_1
theorem dksX5_init_0 : cX5_init.data.toList.drop 0 = dktX5_init_0 := by decide +kernel
theorem dksX5_init_1 : cX5_init.data.toList.drop 23 = dktX5_init_1 := dk_seg dksX5_init_0 23 rfl rfl
theorem dksX5_init_2 : cX5_init.data.toList.drop 47 = dktX5_init_2 := dk_seg dksX5_init_1 24 rfl rfl
theorem dksX5_init_3 : cX5_init.data.toList.drop 71 = dktX5_init_3 := dk_seg dksX5_init_2 24 rfl rfl
theorem dksX5_init_4 : cX5_init.data.toList.drop 93 = dktX5_init_4 := dk_seg dksX5_init_3 22 rfl rfl
theorem dX5_init_0 : decode cX5_init 0 = .ok (.aload_n 0, 1) := dk_42 (dk_at dksX5_init_0 0 rfl rfl)
theorem dX5_init_1 : decode cX5_init 1 = .ok (.invokespecial 3, 3) := dk_183 0 3 (dk_at dksX5_init_0 1 rfl rfl)
theorem dX5_init_4 : decode cX5_init 4 = .ok (.aload_n 0, 1) := dk_42 (dk_at dksX5_init_0 4 rfl rfl)
theorem dX5_init_5 : decode cX5_init 5 = .ok (.sipush 2000, 3) := dk_17 7 208 (dk_at dksX5_init_0 5 rfl rfl)
theorem dX5_init_8 : decode cX5_init 8 = .ok (.newarray .int, 2) := dk_188_10 (dk_at dksX5_init_0 8 rfl rfl)
theorem dX5_init_10 : decode cX5_init 10 = .ok (.putfield 9, 3) := dk_181 0 9 (dk_at dksX5_init_0 10 rfl rfl)
theorem dX5_init_13 : decode cX5_init 13 = .ok (.aload_n 0, 1) := dk_42 (dk_at dksX5_init_0 13 rfl rfl)
theorem dX5_init_14 : decode cX5_init 14 = .ok (.iconst (-1), 1) := dk_2 (dk_at dksX5_init_0 14 rfl rfl)
theorem dX5_init_15 : decode cX5_init 15 = .ok (.putfield 13, 3) := dk_181 0 13 (dk_at dksX5_init_0 15 rfl rfl)
theorem dX5_init_18 : decode cX5_init 18 = .ok (.aload_n 0, 1) := dk_42 (dk_at dksX5_init_0 18 rfl rfl)
theorem dX5_init_19 : decode cX5_init 19 = .ok (.new 17, 3) := dk_187 0 17 (dk_at dksX5_init_0 19 rfl rfl)
theorem dX5_init_22 : decode cX5_init 22 = .ok (.dup, 1) := dk_89 (dk_at dksX5_init_0 22 rfl rfl)
theorem dX5_init_23 : decode cX5_init 23 = .ok (.invokespecial 19, 3) := dk_183 0 19 (dk_at dksX5_init_1 0 rfl rfl)
theorem dX5_init_26 : decode cX5_init 26 = .ok (.putfield 20, 3) := dk_181 0 20 (dk_at dksX5_init_1 3 rfl rfl)
theorem dX5_init_29 : decode cX5_init 29 = .ok (.aload_n 0, 1) := dk_42 (dk_at dksX5_init_1 6 rfl rfl)
theorem dX5_init_30 : decode cX5_init 30 = .ok (.sipush 401, 3) := dk_17 1 145 (dk_at dksX5_init_1 7 rfl rfl)
theorem dX5_init_33 : decode cX5_init 33 = .ok (.newarray .int, 2) := dk_188_10 (dk_at dksX5_init_1 10 rfl rfl)
theorem dX5_init_35 : decode cX5_init 35 = .ok (.putfield 24, 3) := dk_181 0 24 (dk_at dksX5_init_1 12 rfl rfl)
theorem dX5_init_38 : decode cX5_init 38 = .ok (.aload_n 0, 1) := dk_42 (dk_at dksX5_init_1 15 rfl rfl)
theorem dX5_init_39 : decode cX5_init 39 = .ok (.sipush 401, 3) := dk_17 1 145 (dk_at dksX5_init_1 16 rfl rfl)
theorem dX5_init_42 : decode cX5_init 42 = .ok (.newarray .int, 2) := dk_188_10 (dk_at dksX5_init_1 19 rfl rfl)
theorem dX5_init_44 : decode cX5_init 44 = .ok (.putfield 27, 3) := dk_181 0 27 (dk_at dksX5_init_1 21 rfl rfl)
theorem dX5_init_47 : decode cX5_init 47 = .ok (.aload_n 0, 1) := dk_42 (dk_at dksX5_init_2 0 rfl rfl)
theorem dX5_init_48 : decode cX5_init 48 = .ok (.sipush 401, 3) := dk_17 1 145 (dk_at dksX5_init_2 1 rfl rfl)
theorem dX5_init_51 : decode cX5_init 51 = .ok (.newarray .int, 2) := dk_188_10 (dk_at dksX5_init_2 4 rfl rfl)
theorem dX5_init_53 : decode cX5_init 53 = .ok (.putfield 30, 3) := dk_181 0 30 (dk_at dksX5_init_2 6 rfl rfl)
theorem dX5_init_56 : decode cX5_init 56 = .ok (.aload_n 0, 1) := dk_42 (dk_at dksX5_init_2 9 rfl rfl)
theorem dX5_init_57 : decode cX5_init 57 = .ok (.sipush 401, 3) := dk_17 1 145 (dk_at dksX5_init_2 10 rfl rfl)
theorem dX5_init_60 : decode cX5_init 60 = .ok (.newarray .long, 2) := dk_188_11 (dk_at dksX5_init_2 13 rfl rfl)
theorem dX5_init_62 : decode cX5_init 62 = .ok (.putfield 33, 3) := dk_181 0 33 (dk_at dksX5_init_2 15 rfl rfl)
theorem dX5_init_65 : decode cX5_init 65 = .ok (.aload_n 0, 1) := dk_42 (dk_at dksX5_init_2 18 rfl rfl)
theorem dX5_init_66 : decode cX5_init 66 = .ok (.sipush 401, 3) := dk_17 1 145 (dk_at dksX5_init_2 19 rfl rfl)
theorem dX5_init_69 : decode cX5_init 69 = .ok (.newarray .int, 2) := dk_188_10 (dk_at dksX5_init_2 22 rfl rfl)
theorem dX5_init_71 : decode cX5_init 71 = .ok (.putfield 37, 3) := dk_181 0 37 (dk_at dksX5_init_3 0 rfl rfl)
theorem dX5_init_74 : decode cX5_init 74 = .ok (.aload_n 0, 1) := dk_42 (dk_at dksX5_init_3 3 rfl rfl)
theorem dX5_init_75 : decode cX5_init 75 = .ok (.sipush 197, 3) := dk_17 0 197 (dk_at dksX5_init_3 4 rfl rfl)
theorem dX5_init_78 : decode cX5_init 78 = .ok (.newarray .int, 2) := dk_188_10 (dk_at dksX5_init_3 7 rfl rfl)
theorem dX5_init_80 : decode cX5_init 80 = .ok (.putfield 40, 3) := dk_181 0 40 (dk_at dksX5_init_3 9 rfl rfl)
theorem dX5_init_83 : decode cX5_init 83 = .ok (.aload_n 0, 1) := dk_42 (dk_at dksX5_init_3 12 rfl rfl)
theorem dX5_init_84 : decode cX5_init 84 = .ok (.sipush 197, 3) := dk_17 0 197 (dk_at dksX5_init_3 13 rfl rfl)
theorem dX5_init_87 : decode cX5_init 87 = .ok (.newarray .int, 2) := dk_188_10 (dk_at dksX5_init_3 16 rfl rfl)
theorem dX5_init_89 : decode cX5_init 89 = .ok (.putfield 43, 3) := dk_181 0 43 (dk_at dksX5_init_3 18 rfl rfl)
theorem dX5_init_92 : decode cX5_init 92 = .ok (.aload_n 0, 1) := dk_42 (dk_at dksX5_init_3 21 rfl rfl)
theorem dX5_init_93 : decode cX5_init 93 = .ok (.sipush 800, 3) := dk_17 3 32 (dk_at dksX5_init_4 0 rfl rfl)
theorem dX5_init_96 : decode cX5_init 96 = .ok (.newarray .int, 2) := dk_188_10 (dk_at dksX5_init_4 3 rfl rfl)
theorem dX5_init_98 : decode cX5_init 98 = .ok (.putfield 46, 3) := dk_181 0 46 (dk_at dksX5_init_4 5 rfl rfl)
theorem dX5_init_101 : decode cX5_init 101 = .ok (.aload_n 0, 1) := dk_42 (dk_at dksX5_init_4 8 rfl rfl)
theorem dX5_init_102 : decode cX5_init 102 = .ok (.invokevirtual 49, 3) := dk_182 0 49 (dk_at dksX5_init_4 9 rfl rfl)
theorem dX5_init_105 : decode cX5_init 105 = .ok (.return_, 1) := dk_177 (dk_at dksX5_init_4 12 rfl rfl)
theorem fpX5_init_9 : sd_Fp yX5_init 9 4 1 (.array .int) := ⟨(RX5, TX5, 18), "SofaDigModel", tyX5, rfl, by decide, rfl, in_X5, Or.inl rfl, tyX5_ok, nmX5, rfl, Or.inr ⟨rfl, rfl, rfl, q2851⟩⟩
theorem fpX5_13_4 (n d : String) : sd_Fp ⟨"SofaDigModel", n, d⟩ 13 4 3 .int := ⟨(RX5, TX5, 18), "SofaDigModel", tyX5, rfl, by decide, rfl, in_X5, Or.inl rfl, tyX5_ok, nmX5, rfl, Or.inl ⟨rfl, Or.inl q2853⟩⟩
theorem fnX5_17 : sd_Fn "SofaDigModel" 17 5 19 [.int 0, .int 0, .int 0, .null, .null, .null, .int 0, .null, .null, .null, .null, .null, .int 0, .null, .null, .null, .null, .null, .int 0] := ⟨(RX6, TX6, 19), tyX6, rfl, rfl, in_X6, q2765, q2766, q128, tyX6_ok, fun j hj => by revert j; decide⟩
theorem fpX5_20_4 (n d : String) : sd_Fp ⟨"SofaDigModel", n, d⟩ 20 4 4 (.object "SofaDigModel$Plan") := ⟨(RX5, TX5, 18), "SofaDigModel", tyX5, rfl, by decide, rfl, in_X5, Or.inl rfl, tyX5_ok, nmX5, rfl, Or.inl ⟨rfl, Or.inl q2854⟩⟩
theorem fpX5_init_24 : sd_Fp yX5_init 24 4 5 (.array .int) := ⟨(RX5, TX5, 18), "SofaDigModel", tyX5, rfl, by decide, rfl, in_X5, Or.inl rfl, tyX5_ok, nmX5, rfl, Or.inr ⟨rfl, rfl, rfl, q2855⟩⟩
theorem fpX5_init_27 : sd_Fp yX5_init 27 4 6 (.array .int) := ⟨(RX5, TX5, 18), "SofaDigModel", tyX5, rfl, by decide, rfl, in_X5, Or.inl rfl, tyX5_ok, nmX5, rfl, Or.inr ⟨rfl, rfl, rfl, q2856⟩⟩
theorem fpX5_init_30 : sd_Fp yX5_init 30 4 7 (.array .int) := ⟨(RX5, TX5, 18), "SofaDigModel", tyX5, rfl, by decide, rfl, in_X5, Or.inl rfl, tyX5_ok, nmX5, rfl, Or.inr ⟨rfl, rfl, rfl, q2857⟩⟩
theorem fpX5_init_33 : sd_Fp yX5_init 33 4 8 (.array .long) := ⟨(RX5, TX5, 18), "SofaDigModel", tyX5, rfl, by decide, rfl, in_X5, Or.inl rfl, tyX5_ok, nmX5, rfl, Or.inr ⟨rfl, rfl, rfl, q2858⟩⟩
theorem fpX5_init_37 : sd_Fp yX5_init 37 4 9 (.array .int) := ⟨(RX5, TX5, 18), "SofaDigModel", tyX5, rfl, by decide, rfl, in_X5, Or.inl rfl, tyX5_ok, nmX5, rfl, Or.inr ⟨rfl, rfl, rfl, q2859⟩⟩
theorem fpX5_init_40 : sd_Fp yX5_init 40 4 15 (.array .int) := ⟨(RX5, TX5, 18), "SofaDigModel", tyX5, rfl, by decide, rfl, in_X5, Or.inl rfl, tyX5_ok, nmX5, rfl, Or.inr ⟨rfl, rfl, rfl, q2865⟩⟩
theorem fpX5_init_43 : sd_Fp yX5_init 43 4 16 (.array .int) := ⟨(RX5, TX5, 18), "SofaDigModel", tyX5, rfl, by decide, rfl, in_X5, Or.inl rfl, tyX5_ok, nmX5, rfl, Or.inr ⟨rfl, rfl, rfl, q2866⟩⟩
theorem fpX5_init_46 : sd_Fp yX5_init 46 4 17 (.array .int) := ⟨(RX5, TX5, 18), "SofaDigModel", tyX5, rfl, by decide, rfl, in_X5, Or.inl rfl, tyX5_ok, nmX5, rfl, Or.inr ⟨rfl, rfl, rfl, q2867⟩⟩
abbrev mX5_init : sd_Y := (yX5_init, cX5_init, 1, none, none)
def fX5_init (G : sd_G) (a0 : Nat) : sd_M Unit :=
  sd_bnd (sd_newI 0 2000) fun o1 =>
  sd_bnd (sd_put 4 1 (.array .int) a0 (.ref o1)) fun _ =>
  sd_bnd (sd_put 4 3 .int a0 (.int (-1))) fun _ =>
  sd_bnd (sd_new 5 19 [.int 0, .int 0, .int 0, .null, .null, .null, .int 0, .null, .null, .null, .null, .null, .int 0, .null, .null, .null, .null, .null, .int 0]) fun o2 =>
  sd_bnd (fX6_init G o2) fun _ =>
  sd_bnd (sd_put 4 4 (.object "SofaDigModel$Plan") a0 (.ref o2)) fun _ =>
  sd_bnd (sd_newI 0 401) fun o3 =>
  sd_bnd (sd_put 4 5 (.array .int) a0 (.ref o3)) fun _ =>
  sd_bnd (sd_newI 0 401) fun o4 =>
  sd_bnd (sd_put 4 6 (.array .int) a0 (.ref o4)) fun _ =>
  sd_bnd (sd_newI 0 401) fun o5 =>
  sd_bnd (sd_put 4 7 (.array .int) a0 (.ref o5)) fun _ =>
  sd_bnd (sd_newL 401) fun o6 =>
  sd_bnd (sd_put 4 8 (.array .long) a0 (.ref o6)) fun _ =>
  sd_bnd (sd_newI 0 401) fun o7 =>
  sd_bnd (sd_put 4 9 (.array .int) a0 (.ref o7)) fun _ =>
  sd_bnd (sd_newI 0 197) fun o8 =>
  sd_bnd (sd_put 4 15 (.array .int) a0 (.ref o8)) fun _ =>
  sd_bnd (sd_newI 0 197) fun o9 =>
  sd_bnd (sd_put 4 16 (.array .int) a0 (.ref o9)) fun _ =>
  sd_bnd (sd_newI 0 800) fun o10 =>
  sd_bnd (sd_put 4 17 (.array .int) a0 (.ref o10)) fun _ =>
  sd_bnd (sd_isC G 4 a0) fun _ =>
  sd_bnd (fX5_fill G a0) fun _ =>
  sd_ret ()
set_option maxHeartbeats 4000000 in
theorem sX5_init (l : Launch) (G : sd_G) (a0 : Nat) (h : sd_H) (ρ : Unit) (cT : Nat × Nat) (h2 : sd_H) (hf : fX5_init G a0 h = some (ρ, cT, h2)) : sd_Met mX5_init ((l, G), (2, 33), [.ref a0], (sd_oV ρ, h2), cT) h := by
  refine sd_entry (plainFor_of_name rfl) rfl (Nat.le_of_ble_eq_true rfl) ?_
  show sd_J mX5_init ((l, G), (2, 33), [.ref a0], (sd_oV ρ, h2), cT) 0 [(0, .ref a0)] [] h cT
  unfold fX5_init at hf
  refine sj_aload_n 0 dX5_init_0 rfl ?_
  refine sj_objInit q2764 q188 q189 (Nat.le_of_ble_eq_true rfl) (Nat.le_of_ble_eq_true rfl) dX5_init_1 ?_
  refine sj_aload_n 0 dX5_init_4 rfl ?_
  refine sj_sipush (v := 2000) dX5_init_5 (by decide) ?_
  refine sj_newI (atype := .int) q300 rfl rfl (by decide) sd_p0 hf dX5_init_8 (fun o1 h c hf => ?_)
  refine sj_put fpX5_init_9 hf dX5_init_10 (fun h hf => ?_)
  refine sj_aload_n 0 dX5_init_13 rfl ?_
  refine sj_iconst (v := (-1)) dX5_init_14 (by decide) ?_
  refine sj_put (fpX5_13_4 _ _) hf dX5_init_15 (fun h hf => ?_)
  refine sj_aload_n 0 dX5_init_18 rfl ?_
  refine sj_new fnX5_17 hf dX5_init_19 (fun o2 h c hf => ?_)
  refine sj_dup dX5_init_22 rfl ?_
  refine sj_cV (rest := [.ref o2, .ref a0]) (fun _ _ _ e => sj_runI (n := 0) (a := o2) (As := []) (rest := [.ref o2, .ref a0]) (sX6_init l G o2 h _ _ _ e) rfl rfl q2767 q2768 q128 q2769 rfl (by decide +kernel) rfl rfl (fun _ z => by cases z) ⟨Nat.le_of_ble_eq_true rfl, Nat.le_of_ble_eq_true rfl⟩ rfl (Nat.le_of_ble_eq_true rfl) dX5_init_23) hf (fun h c hf => ?_)
  refine sj_put (fpX5_20_4 _ _) hf dX5_init_26 (fun h hf => ?_)
  refine sj_aload_n 0 dX5_init_29 rfl ?_
  refine sj_sipush (v := 401) dX5_init_30 (by decide) ?_
  refine sj_newI (atype := .int) q300 rfl rfl (by decide) sd_p0 hf dX5_init_33 (fun o3 h c hf => ?_)
  refine sj_put fpX5_init_24 hf dX5_init_35 (fun h hf => ?_)
  refine sj_aload_n 0 dX5_init_38 rfl ?_
  refine sj_sipush (v := 401) dX5_init_39 (by decide) ?_
  refine sj_newI (atype := .int) q300 rfl rfl (by decide) sd_p0 hf dX5_init_42 (fun o4 h c hf => ?_)
  refine sj_put fpX5_init_27 hf dX5_init_44 (fun h hf => ?_)
  refine sj_aload_n 0 dX5_init_47 rfl ?_
  refine sj_sipush (v := 401) dX5_init_48 (by decide) ?_
  refine sj_newI (atype := .int) q300 rfl rfl (by decide) sd_p0 hf dX5_init_51 (fun o5 h c hf => ?_)
  refine sj_put fpX5_init_30 hf dX5_init_53 (fun h hf => ?_)
  refine sj_aload_n 0 dX5_init_56 rfl ?_
  refine sj_sipush (v := 401) dX5_init_57 (by decide) ?_
  refine sj_newL q2844 hf dX5_init_60 (fun o6 h c hf => ?_)
  refine sj_put fpX5_init_33 hf dX5_init_62 (fun h hf => ?_)
  refine sj_aload_n 0 dX5_init_65 rfl ?_
  refine sj_sipush (v := 401) dX5_init_66 (by decide) ?_
  refine sj_newI (atype := .int) q300 rfl rfl (by decide) sd_p0 hf dX5_init_69 (fun o7 h c hf => ?_)
  refine sj_put fpX5_init_37 hf dX5_init_71 (fun h hf => ?_)
  refine sj_aload_n 0 dX5_init_74 rfl ?_
  refine sj_sipush (v := 197) dX5_init_75 (by decide) ?_
  refine sj_newI (atype := .int) q300 rfl rfl (by decide) sd_p0 hf dX5_init_78 (fun o8 h c hf => ?_)
  refine sj_put fpX5_init_40 hf dX5_init_80 (fun h hf => ?_)
  refine sj_aload_n 0 dX5_init_83 rfl ?_
  refine sj_sipush (v := 197) dX5_init_84 (by decide) ?_
  refine sj_newI (atype := .int) q300 rfl rfl (by decide) sd_p0 hf dX5_init_87 (fun o9 h c hf => ?_)
  refine sj_put fpX5_init_43 hf dX5_init_89 (fun h hf => ?_)
  refine sj_aload_n 0 dX5_init_92 rfl ?_
  refine sj_sipush (v := 800) dX5_init_93 (by decide) ?_
  refine sj_newI (atype := .int) q300 rfl rfl (by decide) sd_p0 hf dX5_init_96 (fun o10 h c hf => ?_)
  refine sj_put fpX5_init_46 hf dX5_init_98 (fun h hf => ?_)
  refine sj_aload_n 0 dX5_init_101 rfl ?_
  obtain ⟨fs102, he102, hf⟩ := sd_isC_some hf
  refine sj_cV (rest := []) (fun _ _ _ e => sj_runV (n := 0) (As := []) (rest := []) (sX5_fill l G a0 h _ _ _ e) he102 rfl rfl rfl rfl q2846 q2848 qs41 q127 q2849 (by decide +kernel) rfl rfl ⟨Nat.le_of_ble_eq_true rfl, Nat.le_of_ble_eq_true rfl⟩ rfl (Nat.le_of_ble_eq_true rfl) dX5_init_102) hf (fun h c hf => ?_)
  exact sj_vret (o := sd_oV) hf rfl rfl rfl dX5_init_105
/-! SofaDigModel.thrown()I -/
abbrev cX5_thrown : ByteArray := prog_46_method_3_code
def yX5_thrown : MethodName := ⟨RX5, "thrown", "()I"⟩
theorem dX5_thrown_0 : decode cX5_thrown 0 = .ok (.aload_n 0, 1) := by decide +kernel
theorem dX5_thrown_1 : decode cX5_thrown 1 = .ok (.getfield 58, 3) := by decide +kernel
theorem dX5_thrown_4 : decode cX5_thrown 4 = .ok (.ireturn, 1) := by decide +kernel
theorem fdX5_58_4 : sd_Fd "SofaDigModel" 58 4 0 := ⟨(RX5, TX5, 18), "SofaDigModel", rfl, by decide, rfl, in_X5, Or.inl rfl, Or.inl q2850⟩
abbrev mX5_thrown : sd_Y := (yX5_thrown, cX5_thrown, 1, some (.int), none)
def fX5_thrown (G : sd_G) (a0 : Nat) : sd_M Int32 :=
  sd_bnd (sd_getI G 4 0 a0) fun v1 =>
  sd_ret v1
set_option maxHeartbeats 4000000 in
theorem sX5_thrown (l : Launch) (G : sd_G) (a0 : Nat) (h : sd_H) (ρ : Int32) (cT : Nat × Nat) (h2 : sd_H) (hf : fX5_thrown G a0 h = some (ρ, cT, h2)) : sd_Met mX5_thrown ((l, G), (0, 0), [.ref a0], (sd_oI ρ, h2), cT) h := by
  refine sd_entry (plainFor_of_name rfl) rfl (Nat.le_of_ble_eq_true rfl) ?_
  show sd_J mX5_thrown ((l, G), (0, 0), [.ref a0], (sd_oI ρ, h2), cT) 0 [(0, .ref a0)] [] h cT
  unfold fX5_thrown at hf
  refine sj_aload_n 0 dX5_thrown_0 rfl ?_
  refine sj_getI fdX5_58_4 hf dX5_thrown_1 (fun v1 hf => ?_)
  exact sj_iret (o := sd_oI) hf rfl rfl rfl dX5_thrown_4
/-! SofaDigModel.no(I)I -/
abbrev cX5_no : ByteArray := prog_46_method_4_code
def yX5_no : MethodName := ⟨RX5, "no", "(I)I"⟩
def dkwX5_no_0 : List UInt8 := [42, 27, 181, 0, 58, 3, 172]
abbrev dktX5_no_0 : List UInt8 := dkwX5_no_0 ++ []
theorem dksX5_no_0 : cX5_no.data.toList.drop 0 = dktX5_no_0 := by decide +kernel
theorem dX5_no_0 : decode cX5_no 0 = .ok (.aload_n 0, 1) := dk_42 (dk_at dksX5_no_0 0 rfl rfl)
theorem dX5_no_1 : decode cX5_no 1 = .ok (.iload_n 1, 1) := dk_27 (dk_at dksX5_no_0 1 rfl rfl)
theorem dX5_no_2 : decode cX5_no 2 = .ok (.putfield 58, 3) := dk_181 0 58 (dk_at dksX5_no_0 2 rfl rfl)
theorem dX5_no_5 : decode cX5_no 5 = .ok (.iconst 0, 1) := dk_3 (dk_at dksX5_no_0 5 rfl rfl)
theorem dX5_no_6 : decode cX5_no 6 = .ok (.ireturn, 1) := dk_172 (dk_at dksX5_no_0 6 rfl rfl)
theorem fpX5_58_4 (n d : String) : sd_Fp ⟨"SofaDigModel", n, d⟩ 58 4 0 .int := ⟨(RX5, TX5, 18), "SofaDigModel", tyX5, rfl, by decide, rfl, in_X5, Or.inl rfl, tyX5_ok, nmX5, rfl, Or.inl ⟨rfl, Or.inl q2850⟩⟩
abbrev mX5_no : sd_Y := (yX5_no, cX5_no, 2, some (.int), none)
def fX5_no (G : sd_G) (a0 : Nat) (a1 : Int32) : sd_M Int32 :=
  sd_bnd (sd_put 4 0 .int a0 (.int a1)) fun _ =>
  sd_ret 0
set_option maxHeartbeats 4000000 in
theorem sX5_no (l : Launch) (G : sd_G) (a0 : Nat) (a1 : Int32) (h : sd_H) (ρ : Int32) (cT : Nat × Nat) (h2 : sd_H) (hf : fX5_no G a0 a1 h = some (ρ, cT, h2)) : sd_Met mX5_no ((l, G), (0, 0), [.ref a0, .int a1], (sd_oI ρ, h2), cT) h := by
  refine sd_entry (plainFor_of_name rfl) rfl (Nat.le_of_ble_eq_true rfl) ?_
  show sd_J mX5_no ((l, G), (0, 0), [.ref a0, .int a1], (sd_oI ρ, h2), cT) 0 [(0, .ref a0), (1, .int a1)] [] h cT
  unfold fX5_no at hf
  refine sj_aload_n 0 dX5_no_0 rfl ?_
  refine sj_iload_n 1 dX5_no_1 rfl ?_
  refine sj_put (fpX5_58_4 _ _) hf dX5_no_2 (fun h hf => ?_)
  refine sj_iconst (v := 0) dX5_no_5 (by decide) ?_
  exact sj_iret (o := sd_oI) hf rfl rfl rfl dX5_no_6
/-! SofaDigModel.isNot(I)Z -/
abbrev cX5_isNot : ByteArray := prog_46_method_5_code
def yX5_isNot : MethodName := ⟨RX5, "isNot", "(I)Z"⟩
def dkwX5_isNot_0 : List UInt8 := [42, 27, 181, 0, 58, 3, 172]
abbrev dktX5_isNot_0 : List UInt8 := dkwX5_isNot_0 ++ []
theorem dksX5_isNot_0 : cX5_isNot.data.toList.drop 0 = dktX5_isNot_0 := by decide +kernel
theorem dX5_isNot_0 : decode cX5_isNot 0 = .ok (.aload_n 0, 1) := dk_42 (dk_at dksX5_isNot_0 0 rfl rfl)
theorem dX5_isNot_1 : decode cX5_isNot 1 = .ok (.iload_n 1, 1) := dk_27 (dk_at dksX5_isNot_0 1 rfl rfl)
theorem dX5_isNot_2 : decode cX5_isNot 2 = .ok (.putfield 58, 3) := dk_181 0 58 (dk_at dksX5_isNot_0 2 rfl rfl)
theorem dX5_isNot_5 : decode cX5_isNot 5 = .ok (.iconst 0, 1) := dk_3 (dk_at dksX5_isNot_0 5 rfl rfl)
theorem dX5_isNot_6 : decode cX5_isNot 6 = .ok (.ireturn, 1) := dk_172 (dk_at dksX5_isNot_0 6 rfl rfl)
abbrev mX5_isNot : sd_Y := (yX5_isNot, cX5_isNot, 2, some (.boolean), none)
def fX5_isNot (G : sd_G) (a0 : Nat) (a1 : Int32) : sd_M Int32 :=
  sd_bnd (sd_put 4 0 .int a0 (.int a1)) fun _ =>
  sd_ret 0
set_option maxHeartbeats 4000000 in
theorem sX5_isNot (l : Launch) (G : sd_G) (a0 : Nat) (a1 : Int32) (h : sd_H) (ρ : Int32) (cT : Nat × Nat) (h2 : sd_H) (hf : fX5_isNot G a0 a1 h = some (ρ, cT, h2)) : sd_Met mX5_isNot ((l, G), (0, 0), [.ref a0, .int a1], (sd_oI ρ, h2), cT) h := by
  refine sd_entry (plainFor_of_name rfl) rfl (Nat.le_of_ble_eq_true rfl) ?_
  show sd_J mX5_isNot ((l, G), (0, 0), [.ref a0, .int a1], (sd_oI ρ, h2), cT) 0 [(0, .ref a0), (1, .int a1)] [] h cT
  unfold fX5_isNot at hf
  refine sj_aload_n 0 dX5_isNot_0 rfl ?_
  refine sj_iload_n 1 dX5_isNot_1 rfl ?_
  refine sj_put (fpX5_58_4 _ _) hf dX5_isNot_2 (fun h hf => ?_)
  refine sj_iconst (v := 0) dX5_isNot_5 (by decide) ?_
  exact sj_zretC (o := sd_oI) (ty := .boolean) rfl hf rfl rfl rfl dX5_isNot_6
/-! SofaDigModel.ok(I)I -/
abbrev cX5_ok : ByteArray := prog_46_method_6_code
def yX5_ok : MethodName := ⟨RX5, "ok", "(I)I"⟩
def dkwX5_ok_0 : List UInt8 := [42, 3, 181, 0, 58, 27, 172]
abbrev dktX5_ok_0 : List UInt8 := dkwX5_ok_0 ++ []
theorem dksX5_ok_0 : cX5_ok.data.toList.drop 0 = dktX5_ok_0 := by decide +kernel
theorem dX5_ok_0 : decode cX5_ok 0 = .ok (.aload_n 0, 1) := dk_42 (dk_at dksX5_ok_0 0 rfl rfl)
theorem dX5_ok_1 : decode cX5_ok 1 = .ok (.iconst 0, 1) := dk_3 (dk_at dksX5_ok_0 1 rfl rfl)
theorem dX5_ok_2 : decode cX5_ok 2 = .ok (.putfield 58, 3) := dk_181 0 58 (dk_at dksX5_ok_0 2 rfl rfl)
theorem dX5_ok_5 : decode cX5_ok 5 = .ok (.iload_n 1, 1) := dk_27 (dk_at dksX5_ok_0 5 rfl rfl)
theorem dX5_ok_6 : decode cX5_ok 6 = .ok (.ireturn, 1) := dk_172 (dk_at dksX5_ok_0 6 rfl rfl)
abbrev mX5_ok : sd_Y := (yX5_ok, cX5_ok, 2, some (.int), none)
def fX5_ok (G : sd_G) (a0 : Nat) (a1 : Int32) : sd_M Int32 :=
  sd_bnd (sd_put 4 0 .int a0 (.int 0)) fun _ =>
  sd_ret a1
set_option maxHeartbeats 4000000 in
theorem sX5_ok (l : Launch) (G : sd_G) (a0 : Nat) (a1 : Int32) (h : sd_H) (ρ : Int32) (cT : Nat × Nat) (h2 : sd_H) (hf : fX5_ok G a0 a1 h = some (ρ, cT, h2)) : sd_Met mX5_ok ((l, G), (0, 0), [.ref a0, .int a1], (sd_oI ρ, h2), cT) h := by
  refine sd_entry (plainFor_of_name rfl) rfl (Nat.le_of_ble_eq_true rfl) ?_
  show sd_J mX5_ok ((l, G), (0, 0), [.ref a0, .int a1], (sd_oI ρ, h2), cT) 0 [(0, .ref a0), (1, .int a1)] [] h cT
  unfold fX5_ok at hf
  refine sj_aload_n 0 dX5_ok_0 rfl ?_
  refine sj_iconst (v := 0) dX5_ok_1 (by decide) ?_
  refine sj_put (fpX5_58_4 _ _) hf dX5_ok_2 (fun h hf => ?_)
  refine sj_iload_n 1 dX5_ok_5 rfl ?_
  exact sj_iret (o := sd_oI) hf rfl rfl rfl dX5_ok_6
/-! SofaDigModel.isIn(III)Z -/
abbrev cX5_isIn : ByteArray := prog_46_method_7_code
def yX5_isIn : MethodName := ⟨RX5, "isIn", "(III)Z"⟩
def dkwX5_isIn_0 : List UInt8 := [26, 27, 161, 0, 12, 26, 28, 163, 0, 7, 4, 167, 0, 4, 3, 172]
abbrev dktX5_isIn_0 : List UInt8 := dkwX5_isIn_0 ++ []
theorem dksX5_isIn_0 : cX5_isIn.data.toList.drop 0 = dktX5_isIn_0 := by decide +kernel
theorem dX5_isIn_0 : decode cX5_isIn 0 = .ok (.iload_n 0, 1) := dk_26 (dk_at dksX5_isIn_0 0 rfl rfl)
theorem dX5_isIn_1 : decode cX5_isIn 1 = .ok (.iload_n 1, 1) := dk_27 (dk_at dksX5_isIn_0 1 rfl rfl)
theorem dX5_isIn_2 : decode cX5_isIn 2 = .ok (.if_icmp .lt 12, 3) := dk_161 0 12 (dk_at dksX5_isIn_0 2 rfl rfl)
theorem dX5_isIn_5 : decode cX5_isIn 5 = .ok (.iload_n 0, 1) := dk_26 (dk_at dksX5_isIn_0 5 rfl rfl)
theorem dX5_isIn_6 : decode cX5_isIn 6 = .ok (.iload_n 2, 1) := dk_28 (dk_at dksX5_isIn_0 6 rfl rfl)
theorem dX5_isIn_7 : decode cX5_isIn 7 = .ok (.if_icmp .gt 7, 3) := dk_163 0 7 (dk_at dksX5_isIn_0 7 rfl rfl)
theorem dX5_isIn_10 : decode cX5_isIn 10 = .ok (.iconst 1, 1) := dk_4 (dk_at dksX5_isIn_0 10 rfl rfl)
theorem dX5_isIn_11 : decode cX5_isIn 11 = .ok (.goto 4, 3) := dk_167 0 4 (dk_at dksX5_isIn_0 11 rfl rfl)
theorem dX5_isIn_14 : decode cX5_isIn 14 = .ok (.iconst 0, 1) := dk_3 (dk_at dksX5_isIn_0 14 rfl rfl)
theorem dX5_isIn_15 : decode cX5_isIn 15 = .ok (.ireturn, 1) := dk_172 (dk_at dksX5_isIn_0 15 rfl rfl)
abbrev mX5_isIn : sd_Y := (yX5_isIn, cX5_isIn, 3, some (.boolean), none)
def fX5_isIn (G : sd_G) (a1 : Int32) (a2 : Int32) (a3 : Int32) : sd_M Int32 :=
  if a1 < a2 then (
    sd_ret 0)
  else (
    if a3 < a1 then (
      sd_ret 0)
    else (
      sd_ret 1))
set_option maxHeartbeats 4000000 in
theorem sX5_isIn (l : Launch) (G : sd_G) (a1 : Int32) (a2 : Int32) (a3 : Int32) (h : sd_H) (ρ : Int32) (cT : Nat × Nat) (h2 : sd_H) (hf : fX5_isIn G a1 a2 a3 h = some (ρ, cT, h2)) : sd_Met mX5_isIn ((l, G), (0, 0), [.int a1, .int a2, .int a3], (sd_oI ρ, h2), cT) h := by
  refine sd_entry (plainFor_of_name rfl) rfl (Nat.le_of_ble_eq_true rfl) ?_
  show sd_J mX5_isIn ((l, G), (0, 0), [.int a1, .int a2, .int a3], (sd_oI ρ, h2), cT) 0 [(0, .int a1), (1, .int a2), (2, .int a3)] [] h cT
  unfold fX5_isIn at hf
  refine sj_iload_n 0 dX5_isIn_0 rfl ?_
  refine sj_iload_n 1 dX5_isIn_1 rfl ?_
  refine sj_iclt 14 hf dX5_isIn_2 (by decide) (fun g2 hf => ?_) (fun g2 hf => ?_)
  · refine sj_iconst (v := 0) dX5_isIn_14 (by decide) ?_
    exact sj_zretC (o := sd_oI) (ty := .boolean) rfl hf rfl rfl rfl dX5_isIn_15
  · refine sj_iload_n 0 dX5_isIn_5 rfl ?_
    refine sj_iload_n 2 dX5_isIn_6 rfl ?_
    refine sj_icgt 14 hf dX5_isIn_7 (by decide) (fun g7 hf => ?_) (fun g7 hf => ?_)
    · refine sj_iconst (v := 0) dX5_isIn_14 (by decide) ?_
      exact sj_zretC (o := sd_oI) (ty := .boolean) rfl hf rfl rfl rfl dX5_isIn_15
    · refine sj_iconst (v := 1) dX5_isIn_10 (by decide) ?_
      refine sj_goto 15 dX5_isIn_11 (by decide) ?_
      exact sj_zretC (o := sd_oI) (ty := .boolean) rfl hf rfl rfl rfl dX5_isIn_15
/-! SofaDigModel.one(Z)I -/
abbrev cX5_one : ByteArray := prog_46_method_8_code
def yX5_one : MethodName := ⟨RX5, "one", "(Z)I"⟩
def dkwX5_one_0 : List UInt8 := [26, 153, 0, 7, 4, 167, 0, 4, 3, 172]
abbrev dktX5_one_0 : List UInt8 := dkwX5_one_0 ++ []
theorem dksX5_one_0 : cX5_one.data.toList.drop 0 = dktX5_one_0 := by decide +kernel
theorem dX5_one_0 : decode cX5_one 0 = .ok (.iload_n 0, 1) := dk_26 (dk_at dksX5_one_0 0 rfl rfl)
theorem dX5_one_1 : decode cX5_one 1 = .ok (.ifCond .eq 7, 3) := dk_153 0 7 (dk_at dksX5_one_0 1 rfl rfl)
theorem dX5_one_4 : decode cX5_one 4 = .ok (.iconst 1, 1) := dk_4 (dk_at dksX5_one_0 4 rfl rfl)
theorem dX5_one_5 : decode cX5_one 5 = .ok (.goto 4, 3) := dk_167 0 4 (dk_at dksX5_one_0 5 rfl rfl)
theorem dX5_one_8 : decode cX5_one 8 = .ok (.iconst 0, 1) := dk_3 (dk_at dksX5_one_0 8 rfl rfl)
theorem dX5_one_9 : decode cX5_one 9 = .ok (.ireturn, 1) := dk_172 (dk_at dksX5_one_0 9 rfl rfl)
abbrev mX5_one : sd_Y := (yX5_one, cX5_one, 1, some (.int), none)
def fX5_one (G : sd_G) (a1 : Int32) : sd_M Int32 :=
  if a1 = 0 then (
    sd_ret 0)
  else (
    sd_ret 1)
set_option maxHeartbeats 4000000 in
theorem sX5_one (l : Launch) (G : sd_G) (a1 : Int32) (h : sd_H) (ρ : Int32) (cT : Nat × Nat) (h2 : sd_H) (hf : fX5_one G a1 h = some (ρ, cT, h2)) : sd_Met mX5_one ((l, G), (0, 0), [.int a1], (sd_oI ρ, h2), cT) h := by
  refine sd_entry (plainFor_of_name rfl) rfl (Nat.le_of_ble_eq_true rfl) ?_
  show sd_J mX5_one ((l, G), (0, 0), [.int a1], (sd_oI ρ, h2), cT) 0 [(0, .int a1)] [] h cT
  unfold fX5_one at hf
  refine sj_iload_n 0 dX5_one_0 rfl ?_
  refine sj_ifeq 8 hf dX5_one_1 (by decide) (fun g1 hf => ?_) (fun g1 hf => ?_)
  · refine sj_iconst (v := 0) dX5_one_8 (by decide) ?_
    exact sj_iret (o := sd_oI) hf rfl rfl rfl dX5_one_9
  · refine sj_iconst (v := 1) dX5_one_4 (by decide) ?_
    refine sj_goto 9 dX5_one_5 (by decide) ?_
    exact sj_iret (o := sd_oI) hf rfl rfl rfl dX5_one_9
/-! SofaDigModel.feed(IIIII)I -/
abbrev cX5_feed : ByteArray := prog_46_method_83_code
def yX5_feed : MethodName := ⟨RX5, "feed", "(IIIII)I"⟩
def dkwX5_feed_4 : List UInt8 := [167, 255, 212, 42, 89, 180, 0, 210, 16, 20, 96, 181, 0, 210, 42, 180, 0, 210, 172]
abbrev dktX5_feed_4 : List UInt8 := dkwX5_feed_4 ++ []
def dkwX5_feed_3 : List UInt8 := [21, 7, 7, 108, 46, 16, 24, 16, 8, 21, 7, 7, 112, 104, 100, 122, 17, 0, 255, 126, 79, 132, 7, 1]
abbrev dktX5_feed_3 : List UInt8 := dkwX5_feed_3 ++ dktX5_feed_4
def dkwX5_feed_2 : List UInt8 := [3, 54, 7, 21, 7, 16, 20, 162, 0, 43, 42, 180, 0, 9, 42, 180, 0, 210, 21, 7, 96, 25, 6]
abbrev dktX5_feed_2 : List UInt8 := dkwX5_feed_2 ++ dktX5_feed_3
def dkwX5_feed_1 : List UInt8 := [89, 3, 27, 79, 89, 4, 28, 79, 89, 5, 29, 79, 89, 6, 21, 4, 79, 89, 7, 21, 5, 79, 58, 6]
abbrev dktX5_feed_1 : List UInt8 := dkwX5_feed_1 ++ dktX5_feed_2
def dkwX5_feed_0 : List UInt8 := [42, 3, 181, 0, 58, 42, 180, 0, 210, 17, 7, 188, 164, 0, 9, 42, 4, 182, 1, 139, 172, 8, 188, 10]
abbrev dktX5_feed_0 : List UInt8 := dkwX5_feed_0 ++ dktX5_feed_1
theorem dksX5_feed_0 : cX5_feed.data.toList.drop 0 = dktX5_feed_0 := by decide +kernel
theorem dksX5_feed_1 : cX5_feed.data.toList.drop 24 = dktX5_feed_1 := dk_seg dksX5_feed_0 24 rfl rfl
theorem dksX5_feed_2 : cX5_feed.data.toList.drop 48 = dktX5_feed_2 := dk_seg dksX5_feed_1 24 rfl rfl
theorem dksX5_feed_3 : cX5_feed.data.toList.drop 71 = dktX5_feed_3 := dk_seg dksX5_feed_2 23 rfl rfl
theorem dksX5_feed_4 : cX5_feed.data.toList.drop 95 = dktX5_feed_4 := dk_seg dksX5_feed_3 24 rfl rfl
theorem dX5_feed_0 : decode cX5_feed 0 = .ok (.aload_n 0, 1) := dk_42 (dk_at dksX5_feed_0 0 rfl rfl)
theorem dX5_feed_1 : decode cX5_feed 1 = .ok (.iconst 0, 1) := dk_3 (dk_at dksX5_feed_0 1 rfl rfl)
theorem dX5_feed_2 : decode cX5_feed 2 = .ok (.putfield 58, 3) := dk_181 0 58 (dk_at dksX5_feed_0 2 rfl rfl)
theorem dX5_feed_5 : decode cX5_feed 5 = .ok (.aload_n 0, 1) := dk_42 (dk_at dksX5_feed_0 5 rfl rfl)
theorem dX5_feed_6 : decode cX5_feed 6 = .ok (.getfield 210, 3) := dk_180 0 210 (dk_at dksX5_feed_0 6 rfl rfl)
theorem dX5_feed_9 : decode cX5_feed 9 = .ok (.sipush 1980, 3) := dk_17 7 188 (dk_at dksX5_feed_0 9 rfl rfl)
theorem dX5_feed_12 : decode cX5_feed 12 = .ok (.if_icmp .le 9, 3) := dk_164 0 9 (dk_at dksX5_feed_0 12 rfl rfl)
theorem dX5_feed_15 : decode cX5_feed 15 = .ok (.aload_n 0, 1) := dk_42 (dk_at dksX5_feed_0 15 rfl rfl)
theorem dX5_feed_16 : decode cX5_feed 16 = .ok (.iconst 1, 1) := dk_4 (dk_at dksX5_feed_0 16 rfl rfl)
theorem dX5_feed_17 : decode cX5_feed 17 = .ok (.invokevirtual 395, 3) := dk_182 1 139 (dk_at dksX5_feed_0 17 rfl rfl)
theorem dX5_feed_20 : decode cX5_feed 20 = .ok (.ireturn, 1) := dk_172 (dk_at dksX5_feed_0 20 rfl rfl)
theorem dX5_feed_21 : decode cX5_feed 21 = .ok (.iconst 5, 1) := dk_8 (dk_at dksX5_feed_0 21 rfl rfl)
theorem dX5_feed_22 : decode cX5_feed 22 = .ok (.newarray .int, 2) := dk_188_10 (dk_at dksX5_feed_0 22 rfl rfl)
theorem dX5_feed_24 : decode cX5_feed 24 = .ok (.dup, 1) := dk_89 (dk_at dksX5_feed_1 0 rfl rfl)
theorem dX5_feed_25 : decode cX5_feed 25 = .ok (.iconst 0, 1) := dk_3 (dk_at dksX5_feed_1 1 rfl rfl)
theorem dX5_feed_26 : decode cX5_feed 26 = .ok (.iload_n 1, 1) := dk_27 (dk_at dksX5_feed_1 2 rfl rfl)
theorem dX5_feed_27 : decode cX5_feed 27 = .ok (.iastore, 1) := dk_79 (dk_at dksX5_feed_1 3 rfl rfl)
theorem dX5_feed_28 : decode cX5_feed 28 = .ok (.dup, 1) := dk_89 (dk_at dksX5_feed_1 4 rfl rfl)
theorem dX5_feed_29 : decode cX5_feed 29 = .ok (.iconst 1, 1) := dk_4 (dk_at dksX5_feed_1 5 rfl rfl)
theorem dX5_feed_30 : decode cX5_feed 30 = .ok (.iload_n 2, 1) := dk_28 (dk_at dksX5_feed_1 6 rfl rfl)
theorem dX5_feed_31 : decode cX5_feed 31 = .ok (.iastore, 1) := dk_79 (dk_at dksX5_feed_1 7 rfl rfl)
theorem dX5_feed_32 : decode cX5_feed 32 = .ok (.dup, 1) := dk_89 (dk_at dksX5_feed_1 8 rfl rfl)
theorem dX5_feed_33 : decode cX5_feed 33 = .ok (.iconst 2, 1) := dk_5 (dk_at dksX5_feed_1 9 rfl rfl)
theorem dX5_feed_34 : decode cX5_feed 34 = .ok (.iload_n 3, 1) := dk_29 (dk_at dksX5_feed_1 10 rfl rfl)
theorem dX5_feed_35 : decode cX5_feed 35 = .ok (.iastore, 1) := dk_79 (dk_at dksX5_feed_1 11 rfl rfl)
theorem dX5_feed_36 : decode cX5_feed 36 = .ok (.dup, 1) := dk_89 (dk_at dksX5_feed_1 12 rfl rfl)
theorem dX5_feed_37 : decode cX5_feed 37 = .ok (.iconst 3, 1) := dk_6 (dk_at dksX5_feed_1 13 rfl rfl)
theorem dX5_feed_38 : decode cX5_feed 38 = .ok (.iload 4, 2) := dk_21 4 (dk_at dksX5_feed_1 14 rfl rfl)
theorem dX5_feed_40 : decode cX5_feed 40 = .ok (.iastore, 1) := dk_79 (dk_at dksX5_feed_1 16 rfl rfl)
theorem dX5_feed_41 : decode cX5_feed 41 = .ok (.dup, 1) := dk_89 (dk_at dksX5_feed_1 17 rfl rfl)
theorem dX5_feed_42 : decode cX5_feed 42 = .ok (.iconst 4, 1) := dk_7 (dk_at dksX5_feed_1 18 rfl rfl)
theorem dX5_feed_43 : decode cX5_feed 43 = .ok (.iload 5, 2) := dk_21 5 (dk_at dksX5_feed_1 19 rfl rfl)
theorem dX5_feed_45 : decode cX5_feed 45 = .ok (.iastore, 1) := dk_79 (dk_at dksX5_feed_1 21 rfl rfl)
theorem dX5_feed_46 : decode cX5_feed 46 = .ok (.astore 6, 2) := dk_58 6 (dk_at dksX5_feed_1 22 rfl rfl)
theorem dX5_feed_48 : decode cX5_feed 48 = .ok (.iconst 0, 1) := dk_3 (dk_at dksX5_feed_2 0 rfl rfl)
theorem dX5_feed_49 : decode cX5_feed 49 = .ok (.istore 7, 2) := dk_54 7 (dk_at dksX5_feed_2 1 rfl rfl)
theorem dX5_feed_51 : decode cX5_feed 51 = .ok (.iload 7, 2) := dk_21 7 (dk_at dksX5_feed_2 3 rfl rfl)
theorem dX5_feed_53 : decode cX5_feed 53 = .ok (.bipush 20, 2) := dk_16 20 (dk_at dksX5_feed_2 5 rfl rfl)
theorem dX5_feed_55 : decode cX5_feed 55 = .ok (.if_icmp .ge 43, 3) := dk_162 0 43 (dk_at dksX5_feed_2 7 rfl rfl)
theorem dX5_feed_58 : decode cX5_feed 58 = .ok (.aload_n 0, 1) := dk_42 (dk_at dksX5_feed_2 10 rfl rfl)
theorem dX5_feed_59 : decode cX5_feed 59 = .ok (.getfield 9, 3) := dk_180 0 9 (dk_at dksX5_feed_2 11 rfl rfl)
theorem dX5_feed_62 : decode cX5_feed 62 = .ok (.aload_n 0, 1) := dk_42 (dk_at dksX5_feed_2 14 rfl rfl)
theorem dX5_feed_63 : decode cX5_feed 63 = .ok (.getfield 210, 3) := dk_180 0 210 (dk_at dksX5_feed_2 15 rfl rfl)
theorem dX5_feed_66 : decode cX5_feed 66 = .ok (.iload 7, 2) := dk_21 7 (dk_at dksX5_feed_2 18 rfl rfl)
theorem dX5_feed_68 : decode cX5_feed 68 = .ok (.iadd, 1) := dk_96 (dk_at dksX5_feed_2 20 rfl rfl)
theorem dX5_feed_69 : decode cX5_feed 69 = .ok (.aload 6, 2) := dk_25 6 (dk_at dksX5_feed_2 21 rfl rfl)
theorem dX5_feed_71 : decode cX5_feed 71 = .ok (.iload 7, 2) := dk_21 7 (dk_at dksX5_feed_3 0 rfl rfl)
theorem dX5_feed_73 : decode cX5_feed 73 = .ok (.iconst 4, 1) := dk_7 (dk_at dksX5_feed_3 2 rfl rfl)
theorem dX5_feed_74 : decode cX5_feed 74 = .ok (.idiv, 1) := dk_108 (dk_at dksX5_feed_3 3 rfl rfl)
theorem dX5_feed_75 : decode cX5_feed 75 = .ok (.iaload, 1) := dk_46 (dk_at dksX5_feed_3 4 rfl rfl)
theorem dX5_feed_76 : decode cX5_feed 76 = .ok (.bipush 24, 2) := dk_16 24 (dk_at dksX5_feed_3 5 rfl rfl)
theorem dX5_feed_78 : decode cX5_feed 78 = .ok (.bipush 8, 2) := dk_16 8 (dk_at dksX5_feed_3 7 rfl rfl)
theorem dX5_feed_80 : decode cX5_feed 80 = .ok (.iload 7, 2) := dk_21 7 (dk_at dksX5_feed_3 9 rfl rfl)
theorem dX5_feed_82 : decode cX5_feed 82 = .ok (.iconst 4, 1) := dk_7 (dk_at dksX5_feed_3 11 rfl rfl)
theorem dX5_feed_83 : decode cX5_feed 83 = .ok (.irem, 1) := dk_112 (dk_at dksX5_feed_3 12 rfl rfl)
theorem dX5_feed_84 : decode cX5_feed 84 = .ok (.imul, 1) := dk_104 (dk_at dksX5_feed_3 13 rfl rfl)
theorem dX5_feed_85 : decode cX5_feed 85 = .ok (.isub, 1) := dk_100 (dk_at dksX5_feed_3 14 rfl rfl)
theorem dX5_feed_86 : decode cX5_feed 86 = .ok (.ishr, 1) := dk_122 (dk_at dksX5_feed_3 15 rfl rfl)
theorem dX5_feed_87 : decode cX5_feed 87 = .ok (.sipush 255, 3) := dk_17 0 255 (dk_at dksX5_feed_3 16 rfl rfl)
theorem dX5_feed_90 : decode cX5_feed 90 = .ok (.iand, 1) := dk_126 (dk_at dksX5_feed_3 19 rfl rfl)
theorem dX5_feed_91 : decode cX5_feed 91 = .ok (.iastore, 1) := dk_79 (dk_at dksX5_feed_3 20 rfl rfl)
theorem dX5_feed_92 : decode cX5_feed 92 = .ok (.iinc 7 1, 3) := dk_132 7 1 (dk_at dksX5_feed_3 21 rfl rfl)
theorem dX5_feed_95 : decode cX5_feed 95 = .ok (.goto (-44), 3) := dk_167 255 212 (dk_at dksX5_feed_4 0 rfl rfl)
theorem dX5_feed_98 : decode cX5_feed 98 = .ok (.aload_n 0, 1) := dk_42 (dk_at dksX5_feed_4 3 rfl rfl)
theorem dX5_feed_99 : decode cX5_feed 99 = .ok (.dup, 1) := dk_89 (dk_at dksX5_feed_4 4 rfl rfl)
theorem dX5_feed_100 : decode cX5_feed 100 = .ok (.getfield 210, 3) := dk_180 0 210 (dk_at dksX5_feed_4 5 rfl rfl)
theorem dX5_feed_103 : decode cX5_feed 103 = .ok (.bipush 20, 2) := dk_16 20 (dk_at dksX5_feed_4 8 rfl rfl)
theorem dX5_feed_105 : decode cX5_feed 105 = .ok (.iadd, 1) := dk_96 (dk_at dksX5_feed_4 10 rfl rfl)
theorem dX5_feed_106 : decode cX5_feed 106 = .ok (.putfield 210, 3) := dk_181 0 210 (dk_at dksX5_feed_4 11 rfl rfl)
theorem dX5_feed_109 : decode cX5_feed 109 = .ok (.aload_n 0, 1) := dk_42 (dk_at dksX5_feed_4 14 rfl rfl)
theorem dX5_feed_110 : decode cX5_feed 110 = .ok (.getfield 210, 3) := dk_180 0 210 (dk_at dksX5_feed_4 15 rfl rfl)
theorem dX5_feed_113 : decode cX5_feed 113 = .ok (.ireturn, 1) := dk_172 (dk_at dksX5_feed_4 18 rfl rfl)
theorem fdX5_210_4 : sd_Fd "SofaDigModel" 210 4 2 := ⟨(RX5, TX5, 18), "SofaDigModel", rfl, by decide, rfl, in_X5, Or.inl rfl, Or.inl q2852⟩
theorem fpX5_210_4 (n d : String) : sd_Fp ⟨"SofaDigModel", n, d⟩ 210 4 2 .int := ⟨(RX5, TX5, 18), "SofaDigModel", tyX5, rfl, by decide, rfl, in_X5, Or.inl rfl, tyX5_ok, nmX5, rfl, Or.inl ⟨rfl, Or.inl q2852⟩⟩
theorem fdX5_9_4 : sd_Fd "SofaDigModel" 9 4 1 := ⟨(RX5, TX5, 18), "SofaDigModel", rfl, by decide, rfl, in_X5, Or.inl rfl, Or.inl q2851⟩
abbrev mX5_feed : sd_Y := (yX5_feed, cX5_feed, 8, some (.int), none)
def fX5_feed_b51 (G : sd_G) (k51 : Nat × Nat × Int32 → sd_M Int32) (w0 : Nat) (w6 : Nat) (w7 : Int32) : sd_M Int32 :=
  if 20 ≤ w7 then (
    sd_bnd (sd_getI G 4 2 w0) fun v3 =>
    sd_bnd (sd_put 4 2 .int w0 (.int (v3 + 20))) fun _ =>
    sd_bnd (sd_getI G 4 2 w0) fun v4 =>
    sd_ret v4)
  else (
    sd_bnd (sd_getR G 4 1 w0) fun v5 =>
    sd_bnd (sd_getI G 4 2 w0) fun v6 =>
    sd_bnd (sd_aldI G 0 w6 (w7 / 4)) fun v7 =>
    sd_bnd (sd_ret ((v7 >>> (((24 : Int32) - ((8 : Int32) * (w7 - w7 / 4 * 4))) &&& 31)) &&& 255)) fun x8 =>
    sd_bnd (sd_astI 0 v5 (v6 + w7) x8) fun _ =>
    sd_bnd (sd_ret (w7 + 1)) fun x9 =>
    k51 (w0, w6, x9))
set_option maxHeartbeats 4000000 in
theorem sX5_feed_b51 (l : Launch) (G : sd_G) (a0 : Nat) (a1 : Int32) (a2 : Int32) (a3 : Int32) (a4 : Int32) (a5 : Int32) (ρ : Int32) (h2 : sd_H) (cT : Nat × Nat) (k51 : Nat × Nat × Int32 → sd_M Int32) (Hk51 : ∀ (q : Nat × Nat × Int32) (h : sd_H) (c : Nat × Nat), k51 q h = some (ρ, c, h2) → sd_J mX5_feed ((l, G), (1, 21), [.ref a0, .int a1, .int a2, .int a3, .int a4, .int a5], (sd_oI ρ, h2), cT) 51 [(0, .ref q.1), (6, .ref q.2.1), (7, .int q.2.2)] [] h c) (w0 : Nat) (w6 : Nat) (w7 : Int32) (h : sd_H) (c : Nat × Nat) (hf : fX5_feed_b51 G k51 w0 w6 w7 h = some (ρ, c, h2)) : sd_J mX5_feed ((l, G), (1, 21), [.ref a0, .int a1, .int a2, .int a3, .int a4, .int a5], (sd_oI ρ, h2), cT) 51 [(0, .ref w0), (6, .ref w6), (7, .int w7)] [] h c := by
  unfold fX5_feed_b51 at hf
  refine sj_iload 2 dX5_feed_51 rfl ?_
  refine sj_bipush (v := 20) dX5_feed_53 (by decide) ?_
  refine sj_icge 98 hf dX5_feed_55 (by decide) (fun g55 hf => ?_) (fun g55 hf => ?_)
  · refine sj_aload_n 0 dX5_feed_98 rfl ?_
    refine sj_dup dX5_feed_99 rfl ?_
    refine sj_getI fdX5_210_4 hf dX5_feed_100 (fun v3 hf => ?_)
    refine sj_bipush (v := 20) dX5_feed_103 (by decide) ?_
    refine sj_iadd dX5_feed_105 ?_
    refine sj_put (fpX5_210_4 _ _) hf dX5_feed_106 (fun h hf => ?_)
    refine sj_aload_n 0 dX5_feed_109 rfl ?_
    refine sj_getI fdX5_210_4 hf dX5_feed_110 (fun v4 hf => ?_)
    exact sj_iret (o := sd_oI) hf rfl rfl rfl dX5_feed_113
  · refine sj_aload_n 0 dX5_feed_58 rfl ?_
    refine sj_getR fdX5_9_4 hf dX5_feed_59 (fun v5 hf => ?_)
    refine sj_aload_n 0 dX5_feed_62 rfl ?_
    refine sj_getI fdX5_210_4 hf dX5_feed_63 (fun v6 hf => ?_)
    refine sj_iload 2 dX5_feed_66 rfl ?_
    refine sj_iadd dX5_feed_68 ?_
    refine sj_aload 1 dX5_feed_69 rfl ?_
    refine sj_iload 2 dX5_feed_71 rfl ?_
    refine sj_iconst (v := 4) dX5_feed_73 (by decide) ?_
    refine sj_idiv dX5_feed_74 (by decide) ?_
    refine sj_iald hf dX5_feed_75 (fun v7 hf => ?_)
    refine sj_bipush (v := 24) dX5_feed_76 (by decide) ?_
    refine sj_bipush (v := 8) dX5_feed_78 (by decide) ?_
    refine sj_iload 2 dX5_feed_80 rfl ?_
    refine sj_iconst (v := 4) dX5_feed_82 (by decide) ?_
    refine sj_irem dX5_feed_83 (by decide) ?_
    refine sj_imul dX5_feed_84 ?_
    refine sj_isub dX5_feed_85 ?_
    refine sj_ishr dX5_feed_86 ?_
    refine sj_sipush (v := 255) dX5_feed_87 (by decide) ?_
    refine sj_iand dX5_feed_90 ?_
    refine sj_nameI hf (fun x8 hf => ?_)
    refine sj_iast hf dX5_feed_91 (fun h hf => ?_)
    refine sj_iincN 2 (fun x9 => [(7, .int x9), (0, .ref w0), (6, .ref w6)]) 1 hf dX5_feed_92 rfl (by decide) (by decide) (fun _ => rfl) (fun x9 hf => ?_)
    refine sj_goto 51 dX5_feed_95 (by decide) ?_
    exact sj_loc [1, 2, 0] rfl (Hk51 (w0, w6, x9) _ _ hf)
theorem sX5_feed_b51_loop (l : Launch) (G : sd_G) (a0 : Nat) (a1 : Int32) (a2 : Int32) (a3 : Int32) (a4 : Int32) (a5 : Int32) (ρ : Int32) (h2 : sd_H) (cT : Nat × Nat) (n : Nat) : ∀ (q : Nat × Nat × Int32) (h : sd_H) (c : Nat × Nat), sd_loop (fun k s => fX5_feed_b51 G k s.1 s.2.1 s.2.2) n q h = some (ρ, c, h2) → sd_J mX5_feed ((l, G), (1, 21), [.ref a0, .int a1, .int a2, .int a3, .int a4, .int a5], (sd_oI ρ, h2), cT) 51 [(0, .ref q.1), (6, .ref q.2.1), (7, .int q.2.2)] [] h c := by
  induction n with
  | zero => intro q h c hf; cases hf
  | succ n ih => intro q h c hf; exact sX5_feed_b51 l G a0 a1 a2 a3 a4 a5 ρ h2 cT _ ih _ _ _ _ _ hf
def fX5_feed (G : sd_G) (a0 : Nat) (a1 : Int32) (a2 : Int32) (a3 : Int32) (a4 : Int32) (a5 : Int32) : sd_M Int32 :=
  sd_bnd (sd_put 4 0 .int a0 (.int 0)) fun _ =>
  sd_bnd (sd_getI G 4 2 a0) fun v1 =>
  if v1 ≤ 1980 then (
    sd_bnd (sd_newI 0 5) fun o2 =>
    sd_bnd (sd_astI 0 o2 0 a1) fun _ =>
    sd_bnd (sd_astI 0 o2 1 a2) fun _ =>
    sd_bnd (sd_astI 0 o2 2 a3) fun _ =>
    sd_bnd (sd_astI 0 o2 3 a4) fun _ =>
    sd_bnd (sd_astI 0 o2 4 a5) fun _ =>
    sd_loop (fun k s => fX5_feed_b51 G k s.1 s.2.1 s.2.2) sd_FU (a0, o2, 0))
  else (
    sd_bnd (sd_isC G 4 a0) fun _ =>
    sd_bnd (fX5_no G a0 1) fun r10 =>
    sd_ret r10)
set_option maxHeartbeats 4000000 in
theorem sX5_feed (l : Launch) (G : sd_G) (a0 : Nat) (a1 : Int32) (a2 : Int32) (a3 : Int32) (a4 : Int32) (a5 : Int32) (h : sd_H) (ρ : Int32) (cT : Nat × Nat) (h2 : sd_H) (hf : fX5_feed G a0 a1 a2 a3 a4 a5 h = some (ρ, cT, h2)) : sd_Met mX5_feed ((l, G), (1, 21), [.ref a0, .int a1, .int a2, .int a3, .int a4, .int a5], (sd_oI ρ, h2), cT) h := by
  refine sd_entry (plainFor_of_name rfl) rfl (Nat.le_of_ble_eq_true rfl) ?_
  show sd_J mX5_feed ((l, G), (1, 21), [.ref a0, .int a1, .int a2, .int a3, .int a4, .int a5], (sd_oI ρ, h2), cT) 0 [(0, .ref a0), (1, .int a1), (2, .int a2), (3, .int a3), (4, .int a4), (5, .int a5)] [] h cT
  unfold fX5_feed at hf
  refine sj_aload_n 0 dX5_feed_0 rfl ?_
  refine sj_iconst (v := 0) dX5_feed_1 (by decide) ?_
  refine sj_put (fpX5_58_4 _ _) hf dX5_feed_2 (fun h hf => ?_)
  refine sj_aload_n 0 dX5_feed_5 rfl ?_
  refine sj_getI fdX5_210_4 hf dX5_feed_6 (fun v1 hf => ?_)
  refine sj_sipush (v := 1980) dX5_feed_9 (by decide) ?_
  refine sj_icle 21 hf dX5_feed_12 (by decide) (fun g12 hf => ?_) (fun g12 hf => ?_)
  · refine sj_iconst (v := 5) dX5_feed_21 (by decide) ?_
    refine sj_newI (atype := .int) q300 rfl rfl (by decide) sd_p0 hf dX5_feed_22 (fun o2 h c hf => ?_)
    refine sj_dup dX5_feed_24 rfl ?_
    refine sj_iconst (v := 0) dX5_feed_25 (by decide) ?_
    refine sj_iload_n 1 dX5_feed_26 rfl ?_
    refine sj_iast hf dX5_feed_27 (fun h hf => ?_)
    refine sj_dup dX5_feed_28 rfl ?_
    refine sj_iconst (v := 1) dX5_feed_29 (by decide) ?_
    refine sj_iload_n 2 dX5_feed_30 rfl ?_
    refine sj_iast hf dX5_feed_31 (fun h hf => ?_)
    refine sj_dup dX5_feed_32 rfl ?_
    refine sj_iconst (v := 2) dX5_feed_33 (by decide) ?_
    refine sj_iload_n 3 dX5_feed_34 rfl ?_
    refine sj_iast hf dX5_feed_35 (fun h hf => ?_)
    refine sj_dup dX5_feed_36 rfl ?_
    refine sj_iconst (v := 3) dX5_feed_37 (by decide) ?_
    refine sj_iload 4 dX5_feed_38 rfl ?_
    refine sj_iast hf dX5_feed_40 (fun h hf => ?_)
    refine sj_dup dX5_feed_41 rfl ?_
    refine sj_iconst (v := 4) dX5_feed_42 (by decide) ?_
    refine sj_iload 5 dX5_feed_43 rfl ?_
    refine sj_iast hf dX5_feed_45 (fun h hf => ?_)
    refine sj_astore [(6, .ref o2), (0, .ref a0), (1, .int a1), (2, .int a2), (3, .int a3), (4, .int a4), (5, .int a5)] dX5_feed_46 (by decide) rfl ?_
    refine sj_iconst (v := 0) dX5_feed_48 (by decide) ?_
    refine sj_istore [(7, .int 0), (6, .ref o2), (0, .ref a0), (1, .int a1), (2, .int a2), (3, .int a3), (4, .int a4), (5, .int a5)] dX5_feed_49 (by decide) rfl ?_
    exact sj_loc [2, 1, 0] rfl (sX5_feed_b51_loop l G a0 a1 a2 a3 a4 a5 ρ h2 cT sd_FU (a0, o2, 0) _ _ hf)
  · refine sj_aload_n 0 dX5_feed_15 rfl ?_
    refine sj_iconst (v := 1) dX5_feed_16 (by decide) ?_
    obtain ⟨fs17, he17, hf⟩ := sd_isC_some hf
    refine sj_cI (rest := []) (fun _ _ _ e => sj_runV (n := 1) (As := [.int 1]) (rest := []) (sX5_no l G a0 1 h _ _ _ e) he17 rfl rfl rfl rfl q2913 q2915 qs42 q127 q2916 (by decide +kernel) rfl rfl ⟨Nat.le_of_ble_eq_true rfl, Nat.le_of_ble_eq_true rfl⟩ rfl (Nat.le_of_ble_eq_true rfl) dX5_feed_17) hf (fun r10 h c hf => ?_)
    exact sj_iret (o := sd_oI) hf rfl rfl rfl dX5_feed_20
/-! SofaDigModel.trim(I)I -/
abbrev cX5_trim : ByteArray := prog_46_method_84_code
def yX5_trim : MethodName := ⟨RX5, "trim", "(I)I"⟩
def dkwX5_trim_1 : List UInt8 := [27, 181, 0, 210, 27, 172]
abbrev dktX5_trim_1 : List UInt8 := dkwX5_trim_1 ++ []
def dkwX5_trim_0 : List UInt8 := [42, 3, 181, 0, 58, 27, 3, 42, 180, 0, 210, 184, 0, 61, 154, 0, 9, 42, 4, 182, 1, 139, 172, 42]
abbrev dktX5_trim_0 : List UInt8 := dkwX5_trim_0 ++ dktX5_trim_1
theorem dksX5_trim_0 : cX5_trim.data.toList.drop 0 = dktX5_trim_0 := by decide +kernel
theorem dksX5_trim_1 : cX5_trim.data.toList.drop 24 = dktX5_trim_1 := dk_seg dksX5_trim_0 24 rfl rfl
theorem dX5_trim_0 : decode cX5_trim 0 = .ok (.aload_n 0, 1) := dk_42 (dk_at dksX5_trim_0 0 rfl rfl)
theorem dX5_trim_1 : decode cX5_trim 1 = .ok (.iconst 0, 1) := dk_3 (dk_at dksX5_trim_0 1 rfl rfl)
theorem dX5_trim_2 : decode cX5_trim 2 = .ok (.putfield 58, 3) := dk_181 0 58 (dk_at dksX5_trim_0 2 rfl rfl)
theorem dX5_trim_5 : decode cX5_trim 5 = .ok (.iload_n 1, 1) := dk_27 (dk_at dksX5_trim_0 5 rfl rfl)
theorem dX5_trim_6 : decode cX5_trim 6 = .ok (.iconst 0, 1) := dk_3 (dk_at dksX5_trim_0 6 rfl rfl)
theorem dX5_trim_7 : decode cX5_trim 7 = .ok (.aload_n 0, 1) := dk_42 (dk_at dksX5_trim_0 7 rfl rfl)
theorem dX5_trim_8 : decode cX5_trim 8 = .ok (.getfield 210, 3) := dk_180 0 210 (dk_at dksX5_trim_0 8 rfl rfl)
theorem dX5_trim_11 : decode cX5_trim 11 = .ok (.invokestatic 61, 3) := dk_184 0 61 (dk_at dksX5_trim_0 11 rfl rfl)
theorem dX5_trim_14 : decode cX5_trim 14 = .ok (.ifCond .ne 9, 3) := dk_154 0 9 (dk_at dksX5_trim_0 14 rfl rfl)
theorem dX5_trim_17 : decode cX5_trim 17 = .ok (.aload_n 0, 1) := dk_42 (dk_at dksX5_trim_0 17 rfl rfl)
theorem dX5_trim_18 : decode cX5_trim 18 = .ok (.iconst 1, 1) := dk_4 (dk_at dksX5_trim_0 18 rfl rfl)
theorem dX5_trim_19 : decode cX5_trim 19 = .ok (.invokevirtual 395, 3) := dk_182 1 139 (dk_at dksX5_trim_0 19 rfl rfl)
theorem dX5_trim_22 : decode cX5_trim 22 = .ok (.ireturn, 1) := dk_172 (dk_at dksX5_trim_0 22 rfl rfl)
theorem dX5_trim_23 : decode cX5_trim 23 = .ok (.aload_n 0, 1) := dk_42 (dk_at dksX5_trim_0 23 rfl rfl)
theorem dX5_trim_24 : decode cX5_trim 24 = .ok (.iload_n 1, 1) := dk_27 (dk_at dksX5_trim_1 0 rfl rfl)
theorem dX5_trim_25 : decode cX5_trim 25 = .ok (.putfield 210, 3) := dk_181 0 210 (dk_at dksX5_trim_1 1 rfl rfl)
theorem dX5_trim_28 : decode cX5_trim 28 = .ok (.iload_n 1, 1) := dk_27 (dk_at dksX5_trim_1 4 rfl rfl)
theorem dX5_trim_29 : decode cX5_trim 29 = .ok (.ireturn, 1) := dk_172 (dk_at dksX5_trim_1 5 rfl rfl)
abbrev mX5_trim : sd_Y := (yX5_trim, cX5_trim, 2, some (.int), none)
def fX5_trim (G : sd_G) (a0 : Nat) (a1 : Int32) : sd_M Int32 :=
  sd_bnd (sd_put 4 0 .int a0 (.int 0)) fun _ =>
  sd_bnd (sd_getI G 4 2 a0) fun v1 =>
  sd_bnd (fX5_isIn G a1 0 v1) fun r2 =>
  if r2 = 0 then (
    sd_bnd (sd_isC G 4 a0) fun _ =>
    sd_bnd (fX5_no G a0 1) fun r3 =>
    sd_ret r3)
  else (
    sd_bnd (sd_put 4 2 .int a0 (.int a1)) fun _ =>
    sd_ret a1)
set_option maxHeartbeats 4000000 in
theorem sX5_trim (l : Launch) (G : sd_G) (a0 : Nat) (a1 : Int32) (h : sd_H) (ρ : Int32) (cT : Nat × Nat) (h2 : sd_H) (hf : fX5_trim G a0 a1 h = some (ρ, cT, h2)) : sd_Met mX5_trim ((l, G), (1, 22), [.ref a0, .int a1], (sd_oI ρ, h2), cT) h := by
  refine sd_entry (plainFor_of_name rfl) rfl (Nat.le_of_ble_eq_true rfl) ?_
  show sd_J mX5_trim ((l, G), (1, 22), [.ref a0, .int a1], (sd_oI ρ, h2), cT) 0 [(0, .ref a0), (1, .int a1)] [] h cT
  unfold fX5_trim at hf
  refine sj_aload_n 0 dX5_trim_0 rfl ?_
  refine sj_iconst (v := 0) dX5_trim_1 (by decide) ?_
  refine sj_put (fpX5_58_4 _ _) hf dX5_trim_2 (fun h hf => ?_)
  refine sj_iload_n 1 dX5_trim_5 rfl ?_
  refine sj_iconst (v := 0) dX5_trim_6 (by decide) ?_
  refine sj_aload_n 0 dX5_trim_7 rfl ?_
  refine sj_getI fdX5_210_4 hf dX5_trim_8 (fun v1 hf => ?_)
  refine sj_cI (rest := []) (fun _ _ _ e => sj_runS (n := 3) (rest := []) (sX5_isIn l G a1 0 v1 h _ _ _ e) rfl rfl q2921 q2922 q127 q2923 (by decide +kernel) rfl ⟨Nat.le_of_ble_eq_true rfl, Nat.le_of_ble_eq_true rfl⟩ rfl (Nat.le_of_ble_eq_true rfl) dX5_trim_11) hf (fun r2 h c hf => ?_)
  refine sj_ifne 23 hf dX5_trim_14 (by decide) (fun g14 hf => ?_) (fun g14 hf => ?_)
  · refine sj_aload_n 0 dX5_trim_23 rfl ?_
    refine sj_iload_n 1 dX5_trim_24 rfl ?_
    refine sj_put (fpX5_210_4 _ _) hf dX5_trim_25 (fun h hf => ?_)
    refine sj_iload_n 1 dX5_trim_28 rfl ?_
    exact sj_iret (o := sd_oI) hf rfl rfl rfl dX5_trim_29
  · refine sj_aload_n 0 dX5_trim_17 rfl ?_
    refine sj_iconst (v := 1) dX5_trim_18 (by decide) ?_
    obtain ⟨fs19, he19, hf⟩ := sd_isC_some hf
    refine sj_cI (rest := []) (fun _ _ _ e => sj_runV (n := 1) (As := [.int 1]) (rest := []) (sX5_no l G a0 1 h _ _ _ e) he19 rfl rfl rfl rfl q2913 q2915 qs42 q127 q2916 (by decide +kernel) rfl rfl ⟨Nat.le_of_ble_eq_true rfl, Nat.le_of_ble_eq_true rfl⟩ rfl (Nat.le_of_ble_eq_true rfl) dX5_trim_19) hf (fun r3 h c hf => ?_)
    exact sj_iret (o := sd_oI) hf rfl rfl rfl dX5_trim_22
/-! SofaDigModel.byteOf(I)I -/
abbrev cX5_byteOf : ByteArray := prog_46_method_39_code
def yX5_byteOf : MethodName := ⟨RX5, "byteOf", "(I)I"⟩
def dkwX5_byteOf_0 : List UInt8 := [27, 42, 180, 0, 210, 162, 0, 12, 42, 180, 0, 9, 27, 46, 167, 0, 4, 2, 172]
abbrev dktX5_byteOf_0 : List UInt8 := dkwX5_byteOf_0 ++ []
theorem dksX5_byteOf_0 : cX5_byteOf.data.toList.drop 0 = dktX5_byteOf_0 := by decide +kernel
theorem dX5_byteOf_0 : decode cX5_byteOf 0 = .ok (.iload_n 1, 1) := dk_27 (dk_at dksX5_byteOf_0 0 rfl rfl)
theorem dX5_byteOf_1 : decode cX5_byteOf 1 = .ok (.aload_n 0, 1) := dk_42 (dk_at dksX5_byteOf_0 1 rfl rfl)
theorem dX5_byteOf_2 : decode cX5_byteOf 2 = .ok (.getfield 210, 3) := dk_180 0 210 (dk_at dksX5_byteOf_0 2 rfl rfl)
theorem dX5_byteOf_5 : decode cX5_byteOf 5 = .ok (.if_icmp .ge 12, 3) := dk_162 0 12 (dk_at dksX5_byteOf_0 5 rfl rfl)
theorem dX5_byteOf_8 : decode cX5_byteOf 8 = .ok (.aload_n 0, 1) := dk_42 (dk_at dksX5_byteOf_0 8 rfl rfl)
theorem dX5_byteOf_9 : decode cX5_byteOf 9 = .ok (.getfield 9, 3) := dk_180 0 9 (dk_at dksX5_byteOf_0 9 rfl rfl)
theorem dX5_byteOf_12 : decode cX5_byteOf 12 = .ok (.iload_n 1, 1) := dk_27 (dk_at dksX5_byteOf_0 12 rfl rfl)
theorem dX5_byteOf_13 : decode cX5_byteOf 13 = .ok (.iaload, 1) := dk_46 (dk_at dksX5_byteOf_0 13 rfl rfl)
theorem dX5_byteOf_14 : decode cX5_byteOf 14 = .ok (.goto 4, 3) := dk_167 0 4 (dk_at dksX5_byteOf_0 14 rfl rfl)
theorem dX5_byteOf_17 : decode cX5_byteOf 17 = .ok (.iconst (-1), 1) := dk_2 (dk_at dksX5_byteOf_0 17 rfl rfl)
theorem dX5_byteOf_18 : decode cX5_byteOf 18 = .ok (.ireturn, 1) := dk_172 (dk_at dksX5_byteOf_0 18 rfl rfl)
abbrev mX5_byteOf : sd_Y := (yX5_byteOf, cX5_byteOf, 2, some (.int), none)
def fX5_byteOf (G : sd_G) (a0 : Nat) (a1 : Int32) : sd_M Int32 :=
  sd_bnd (sd_getI G 4 2 a0) fun v1 =>
  if v1 ≤ a1 then (
    sd_ret (-1))
  else (
    sd_bnd (sd_getR G 4 1 a0) fun v2 =>
    sd_bnd (sd_aldI G 0 v2 a1) fun v3 =>
    sd_ret v3)
set_option maxHeartbeats 4000000 in
theorem sX5_byteOf (l : Launch) (G : sd_G) (a0 : Nat) (a1 : Int32) (h : sd_H) (ρ : Int32) (cT : Nat × Nat) (h2 : sd_H) (hf : fX5_byteOf G a0 a1 h = some (ρ, cT, h2)) : sd_Met mX5_byteOf ((l, G), (0, 0), [.ref a0, .int a1], (sd_oI ρ, h2), cT) h := by
  refine sd_entry (plainFor_of_name rfl) rfl (Nat.le_of_ble_eq_true rfl) ?_
  show sd_J mX5_byteOf ((l, G), (0, 0), [.ref a0, .int a1], (sd_oI ρ, h2), cT) 0 [(0, .ref a0), (1, .int a1)] [] h cT
  unfold fX5_byteOf at hf
  refine sj_iload_n 1 dX5_byteOf_0 rfl ?_
  refine sj_aload_n 0 dX5_byteOf_1 rfl ?_
  refine sj_getI fdX5_210_4 hf dX5_byteOf_2 (fun v1 hf => ?_)
  refine sj_icge 17 hf dX5_byteOf_5 (by decide) (fun g5 hf => ?_) (fun g5 hf => ?_)
  · refine sj_iconst (v := (-1)) dX5_byteOf_17 (by decide) ?_
    exact sj_iret (o := sd_oI) hf rfl rfl rfl dX5_byteOf_18
  · refine sj_aload_n 0 dX5_byteOf_8 rfl ?_
    refine sj_getR fdX5_9_4 hf dX5_byteOf_9 (fun v2 hf => ?_)
    refine sj_iload_n 1 dX5_byteOf_12 rfl ?_
    refine sj_iald hf dX5_byteOf_13 (fun v3 hf => ?_)
    refine sj_goto 18 dX5_byteOf_14 (by decide) ?_
    exact sj_iret (o := sd_oI) hf rfl rfl rfl dX5_byteOf_18
/-! SofaDigModel.isSmall(I)Z -/
abbrev cX5_isSmall : ByteArray := prog_46_method_40_code
def yX5_isSmall : MethodName := ⟨RX5, "isSmall", "(I)Z"⟩
def dkwX5_isSmall_0 : List UInt8 := [26, 16, 97, 161, 0, 13, 26, 16, 122, 163, 0, 7, 4, 167, 0, 4, 3, 172]
abbrev dktX5_isSmall_0 : List UInt8 := dkwX5_isSmall_0 ++ []
theorem dksX5_isSmall_0 : cX5_isSmall.data.toList.drop 0 = dktX5_isSmall_0 := by decide +kernel
theorem dX5_isSmall_0 : decode cX5_isSmall 0 = .ok (.iload_n 0, 1) := dk_26 (dk_at dksX5_isSmall_0 0 rfl rfl)
theorem dX5_isSmall_1 : decode cX5_isSmall 1 = .ok (.bipush 97, 2) := dk_16 97 (dk_at dksX5_isSmall_0 1 rfl rfl)
theorem dX5_isSmall_3 : decode cX5_isSmall 3 = .ok (.if_icmp .lt 13, 3) := dk_161 0 13 (dk_at dksX5_isSmall_0 3 rfl rfl)
theorem dX5_isSmall_6 : decode cX5_isSmall 6 = .ok (.iload_n 0, 1) := dk_26 (dk_at dksX5_isSmall_0 6 rfl rfl)
theorem dX5_isSmall_7 : decode cX5_isSmall 7 = .ok (.bipush 122, 2) := dk_16 122 (dk_at dksX5_isSmall_0 7 rfl rfl)
theorem dX5_isSmall_9 : decode cX5_isSmall 9 = .ok (.if_icmp .gt 7, 3) := dk_163 0 7 (dk_at dksX5_isSmall_0 9 rfl rfl)
theorem dX5_isSmall_12 : decode cX5_isSmall 12 = .ok (.iconst 1, 1) := dk_4 (dk_at dksX5_isSmall_0 12 rfl rfl)
theorem dX5_isSmall_13 : decode cX5_isSmall 13 = .ok (.goto 4, 3) := dk_167 0 4 (dk_at dksX5_isSmall_0 13 rfl rfl)
theorem dX5_isSmall_16 : decode cX5_isSmall 16 = .ok (.iconst 0, 1) := dk_3 (dk_at dksX5_isSmall_0 16 rfl rfl)
theorem dX5_isSmall_17 : decode cX5_isSmall 17 = .ok (.ireturn, 1) := dk_172 (dk_at dksX5_isSmall_0 17 rfl rfl)
abbrev mX5_isSmall : sd_Y := (yX5_isSmall, cX5_isSmall, 1, some (.boolean), none)
def fX5_isSmall (G : sd_G) (a1 : Int32) : sd_M Int32 :=
  if a1 < 97 then (
    sd_ret 0)
  else (
    if 122 < a1 then (
      sd_ret 0)
    else (
      sd_ret 1))
set_option maxHeartbeats 4000000 in
theorem sX5_isSmall (l : Launch) (G : sd_G) (a1 : Int32) (h : sd_H) (ρ : Int32) (cT : Nat × Nat) (h2 : sd_H) (hf : fX5_isSmall G a1 h = some (ρ, cT, h2)) : sd_Met mX5_isSmall ((l, G), (0, 0), [.int a1], (sd_oI ρ, h2), cT) h := by
  refine sd_entry (plainFor_of_name rfl) rfl (Nat.le_of_ble_eq_true rfl) ?_
  show sd_J mX5_isSmall ((l, G), (0, 0), [.int a1], (sd_oI ρ, h2), cT) 0 [(0, .int a1)] [] h cT
  unfold fX5_isSmall at hf
  refine sj_iload_n 0 dX5_isSmall_0 rfl ?_
  refine sj_bipush (v := 97) dX5_isSmall_1 (by decide) ?_
  refine sj_iclt 16 hf dX5_isSmall_3 (by decide) (fun g3 hf => ?_) (fun g3 hf => ?_)
  · refine sj_iconst (v := 0) dX5_isSmall_16 (by decide) ?_
    exact sj_zretC (o := sd_oI) (ty := .boolean) rfl hf rfl rfl rfl dX5_isSmall_17
  · refine sj_iload_n 0 dX5_isSmall_6 rfl ?_
    refine sj_bipush (v := 122) dX5_isSmall_7 (by decide) ?_
    refine sj_icgt 16 hf dX5_isSmall_9 (by decide) (fun g9 hf => ?_) (fun g9 hf => ?_)
    · refine sj_iconst (v := 0) dX5_isSmall_16 (by decide) ?_
      exact sj_zretC (o := sd_oI) (ty := .boolean) rfl hf rfl rfl rfl dX5_isSmall_17
    · refine sj_iconst (v := 1) dX5_isSmall_12 (by decide) ?_
      refine sj_goto 17 dX5_isSmall_13 (by decide) ?_
      exact sj_zretC (o := sd_oI) (ty := .boolean) rfl hf rfl rfl rfl dX5_isSmall_17
/-! SofaDigModel.isDigit(I)Z -/
abbrev cX5_isDigit : ByteArray := prog_46_method_41_code
def yX5_isDigit : MethodName := ⟨RX5, "isDigit", "(I)Z"⟩
def dkwX5_isDigit_0 : List UInt8 := [26, 16, 48, 161, 0, 13, 26, 16, 57, 163, 0, 7, 4, 167, 0, 4, 3, 172]
abbrev dktX5_isDigit_0 : List UInt8 := dkwX5_isDigit_0 ++ []
theorem dksX5_isDigit_0 : cX5_isDigit.data.toList.drop 0 = dktX5_isDigit_0 := by decide +kernel
theorem dX5_isDigit_0 : decode cX5_isDigit 0 = .ok (.iload_n 0, 1) := dk_26 (dk_at dksX5_isDigit_0 0 rfl rfl)
theorem dX5_isDigit_1 : decode cX5_isDigit 1 = .ok (.bipush 48, 2) := dk_16 48 (dk_at dksX5_isDigit_0 1 rfl rfl)
theorem dX5_isDigit_3 : decode cX5_isDigit 3 = .ok (.if_icmp .lt 13, 3) := dk_161 0 13 (dk_at dksX5_isDigit_0 3 rfl rfl)
theorem dX5_isDigit_6 : decode cX5_isDigit 6 = .ok (.iload_n 0, 1) := dk_26 (dk_at dksX5_isDigit_0 6 rfl rfl)
theorem dX5_isDigit_7 : decode cX5_isDigit 7 = .ok (.bipush 57, 2) := dk_16 57 (dk_at dksX5_isDigit_0 7 rfl rfl)
theorem dX5_isDigit_9 : decode cX5_isDigit 9 = .ok (.if_icmp .gt 7, 3) := dk_163 0 7 (dk_at dksX5_isDigit_0 9 rfl rfl)
theorem dX5_isDigit_12 : decode cX5_isDigit 12 = .ok (.iconst 1, 1) := dk_4 (dk_at dksX5_isDigit_0 12 rfl rfl)
theorem dX5_isDigit_13 : decode cX5_isDigit 13 = .ok (.goto 4, 3) := dk_167 0 4 (dk_at dksX5_isDigit_0 13 rfl rfl)
theorem dX5_isDigit_16 : decode cX5_isDigit 16 = .ok (.iconst 0, 1) := dk_3 (dk_at dksX5_isDigit_0 16 rfl rfl)
theorem dX5_isDigit_17 : decode cX5_isDigit 17 = .ok (.ireturn, 1) := dk_172 (dk_at dksX5_isDigit_0 17 rfl rfl)
abbrev mX5_isDigit : sd_Y := (yX5_isDigit, cX5_isDigit, 1, some (.boolean), none)
def fX5_isDigit (G : sd_G) (a1 : Int32) : sd_M Int32 :=
  if a1 < 48 then (
    sd_ret 0)
  else (
    if 57 < a1 then (
      sd_ret 0)
    else (
      sd_ret 1))
set_option maxHeartbeats 4000000 in
theorem sX5_isDigit (l : Launch) (G : sd_G) (a1 : Int32) (h : sd_H) (ρ : Int32) (cT : Nat × Nat) (h2 : sd_H) (hf : fX5_isDigit G a1 h = some (ρ, cT, h2)) : sd_Met mX5_isDigit ((l, G), (0, 0), [.int a1], (sd_oI ρ, h2), cT) h := by
  refine sd_entry (plainFor_of_name rfl) rfl (Nat.le_of_ble_eq_true rfl) ?_
  show sd_J mX5_isDigit ((l, G), (0, 0), [.int a1], (sd_oI ρ, h2), cT) 0 [(0, .int a1)] [] h cT
  unfold fX5_isDigit at hf
  refine sj_iload_n 0 dX5_isDigit_0 rfl ?_
  refine sj_bipush (v := 48) dX5_isDigit_1 (by decide) ?_
  refine sj_iclt 16 hf dX5_isDigit_3 (by decide) (fun g3 hf => ?_) (fun g3 hf => ?_)
  · refine sj_iconst (v := 0) dX5_isDigit_16 (by decide) ?_
    exact sj_zretC (o := sd_oI) (ty := .boolean) rfl hf rfl rfl rfl dX5_isDigit_17
  · refine sj_iload_n 0 dX5_isDigit_6 rfl ?_
    refine sj_bipush (v := 57) dX5_isDigit_7 (by decide) ?_
    refine sj_icgt 16 hf dX5_isDigit_9 (by decide) (fun g9 hf => ?_) (fun g9 hf => ?_)
    · refine sj_iconst (v := 0) dX5_isDigit_16 (by decide) ?_
      exact sj_zretC (o := sd_oI) (ty := .boolean) rfl hf rfl rfl rfl dX5_isDigit_17
    · refine sj_iconst (v := 1) dX5_isDigit_12 (by decide) ?_
      refine sj_goto 17 dX5_isDigit_13 (by decide) ?_
      exact sj_zretC (o := sd_oI) (ty := .boolean) rfl hf rfl rfl rfl dX5_isDigit_17
/-! SofaDigModel.endOf(I)I -/
abbrev cX5_endOf : ByteArray := prog_46_method_42_code
def yX5_endOf : MethodName := ⟨RX5, "endOf", "(I)I"⟩
def dkwX5_endOf_4 : List UInt8 := [29, 172]
abbrev dktX5_endOf_4 : List UInt8 := dkwX5_endOf_4 ++ []
def dkwX5_endOf_3 : List UInt8 := [16, 60, 159, 0, 9, 28, 16, 62, 160, 0, 16, 42, 29, 182, 0, 213, 16, 61, 160, 0, 6, 132, 3, 1]
abbrev dktX5_endOf_3 : List UInt8 := dkwX5_endOf_3 ++ dktX5_endOf_4
def dkwX5_endOf_2 : List UInt8 := [184, 0, 219, 153, 0, 20, 42, 29, 182, 0, 213, 184, 0, 219, 153, 0, 9, 132, 3, 1, 167, 255, 242, 28]
abbrev dktX5_endOf_2 : List UInt8 := dkwX5_endOf_2 ++ dktX5_endOf_3
def dkwX5_endOf_1 : List UInt8 := [184, 0, 216, 154, 0, 14, 42, 29, 182, 0, 213, 184, 0, 219, 153, 0, 9, 132, 3, 1, 167, 255, 231, 28]
abbrev dktX5_endOf_1 : List UInt8 := dkwX5_endOf_1 ++ dktX5_endOf_2
def dkwX5_endOf_0 : List UInt8 := [42, 27, 182, 0, 213, 61, 27, 4, 96, 62, 28, 184, 0, 216, 153, 0, 31, 42, 29, 182, 0, 213]
abbrev dktX5_endOf_0 : List UInt8 := dkwX5_endOf_0 ++ dktX5_endOf_1
theorem dksX5_endOf_0 : cX5_endOf.data.toList.drop 0 = dktX5_endOf_0 := by decide +kernel
theorem dksX5_endOf_1 : cX5_endOf.data.toList.drop 22 = dktX5_endOf_1 := dk_seg dksX5_endOf_0 22 rfl rfl
theorem dksX5_endOf_2 : cX5_endOf.data.toList.drop 46 = dktX5_endOf_2 := dk_seg dksX5_endOf_1 24 rfl rfl
theorem dksX5_endOf_3 : cX5_endOf.data.toList.drop 70 = dktX5_endOf_3 := dk_seg dksX5_endOf_2 24 rfl rfl
theorem dksX5_endOf_4 : cX5_endOf.data.toList.drop 94 = dktX5_endOf_4 := dk_seg dksX5_endOf_3 24 rfl rfl
theorem dX5_endOf_0 : decode cX5_endOf 0 = .ok (.aload_n 0, 1) := dk_42 (dk_at dksX5_endOf_0 0 rfl rfl)
theorem dX5_endOf_1 : decode cX5_endOf 1 = .ok (.iload_n 1, 1) := dk_27 (dk_at dksX5_endOf_0 1 rfl rfl)
theorem dX5_endOf_2 : decode cX5_endOf 2 = .ok (.invokevirtual 213, 3) := dk_182 0 213 (dk_at dksX5_endOf_0 2 rfl rfl)
theorem dX5_endOf_5 : decode cX5_endOf 5 = .ok (.istore_n 2, 1) := dk_61 (dk_at dksX5_endOf_0 5 rfl rfl)
theorem dX5_endOf_6 : decode cX5_endOf 6 = .ok (.iload_n 1, 1) := dk_27 (dk_at dksX5_endOf_0 6 rfl rfl)
theorem dX5_endOf_7 : decode cX5_endOf 7 = .ok (.iconst 1, 1) := dk_4 (dk_at dksX5_endOf_0 7 rfl rfl)
theorem dX5_endOf_8 : decode cX5_endOf 8 = .ok (.iadd, 1) := dk_96 (dk_at dksX5_endOf_0 8 rfl rfl)
theorem dX5_endOf_9 : decode cX5_endOf 9 = .ok (.istore_n 3, 1) := dk_62 (dk_at dksX5_endOf_0 9 rfl rfl)
theorem dX5_endOf_10 : decode cX5_endOf 10 = .ok (.iload_n 2, 1) := dk_28 (dk_at dksX5_endOf_0 10 rfl rfl)
theorem dX5_endOf_11 : decode cX5_endOf 11 = .ok (.invokestatic 216, 3) := dk_184 0 216 (dk_at dksX5_endOf_0 11 rfl rfl)
theorem dX5_endOf_14 : decode cX5_endOf 14 = .ok (.ifCond .eq 31, 3) := dk_153 0 31 (dk_at dksX5_endOf_0 14 rfl rfl)
theorem dX5_endOf_17 : decode cX5_endOf 17 = .ok (.aload_n 0, 1) := dk_42 (dk_at dksX5_endOf_0 17 rfl rfl)
theorem dX5_endOf_18 : decode cX5_endOf 18 = .ok (.iload_n 3, 1) := dk_29 (dk_at dksX5_endOf_0 18 rfl rfl)
theorem dX5_endOf_19 : decode cX5_endOf 19 = .ok (.invokevirtual 213, 3) := dk_182 0 213 (dk_at dksX5_endOf_0 19 rfl rfl)
theorem dX5_endOf_22 : decode cX5_endOf 22 = .ok (.invokestatic 216, 3) := dk_184 0 216 (dk_at dksX5_endOf_1 0 rfl rfl)
theorem dX5_endOf_25 : decode cX5_endOf 25 = .ok (.ifCond .ne 14, 3) := dk_154 0 14 (dk_at dksX5_endOf_1 3 rfl rfl)
theorem dX5_endOf_28 : decode cX5_endOf 28 = .ok (.aload_n 0, 1) := dk_42 (dk_at dksX5_endOf_1 6 rfl rfl)
theorem dX5_endOf_29 : decode cX5_endOf 29 = .ok (.iload_n 3, 1) := dk_29 (dk_at dksX5_endOf_1 7 rfl rfl)
theorem dX5_endOf_30 : decode cX5_endOf 30 = .ok (.invokevirtual 213, 3) := dk_182 0 213 (dk_at dksX5_endOf_1 8 rfl rfl)
theorem dX5_endOf_33 : decode cX5_endOf 33 = .ok (.invokestatic 219, 3) := dk_184 0 219 (dk_at dksX5_endOf_1 11 rfl rfl)
theorem dX5_endOf_36 : decode cX5_endOf 36 = .ok (.ifCond .eq 9, 3) := dk_153 0 9 (dk_at dksX5_endOf_1 14 rfl rfl)
theorem dX5_endOf_39 : decode cX5_endOf 39 = .ok (.iinc 3 1, 3) := dk_132 3 1 (dk_at dksX5_endOf_1 17 rfl rfl)
theorem dX5_endOf_42 : decode cX5_endOf 42 = .ok (.goto (-25), 3) := dk_167 255 231 (dk_at dksX5_endOf_1 20 rfl rfl)
theorem dX5_endOf_45 : decode cX5_endOf 45 = .ok (.iload_n 2, 1) := dk_28 (dk_at dksX5_endOf_1 23 rfl rfl)
theorem dX5_endOf_46 : decode cX5_endOf 46 = .ok (.invokestatic 219, 3) := dk_184 0 219 (dk_at dksX5_endOf_2 0 rfl rfl)
theorem dX5_endOf_49 : decode cX5_endOf 49 = .ok (.ifCond .eq 20, 3) := dk_153 0 20 (dk_at dksX5_endOf_2 3 rfl rfl)
theorem dX5_endOf_52 : decode cX5_endOf 52 = .ok (.aload_n 0, 1) := dk_42 (dk_at dksX5_endOf_2 6 rfl rfl)
theorem dX5_endOf_53 : decode cX5_endOf 53 = .ok (.iload_n 3, 1) := dk_29 (dk_at dksX5_endOf_2 7 rfl rfl)
theorem dX5_endOf_54 : decode cX5_endOf 54 = .ok (.invokevirtual 213, 3) := dk_182 0 213 (dk_at dksX5_endOf_2 8 rfl rfl)
theorem dX5_endOf_57 : decode cX5_endOf 57 = .ok (.invokestatic 219, 3) := dk_184 0 219 (dk_at dksX5_endOf_2 11 rfl rfl)
theorem dX5_endOf_60 : decode cX5_endOf 60 = .ok (.ifCond .eq 9, 3) := dk_153 0 9 (dk_at dksX5_endOf_2 14 rfl rfl)
theorem dX5_endOf_63 : decode cX5_endOf 63 = .ok (.iinc 3 1, 3) := dk_132 3 1 (dk_at dksX5_endOf_2 17 rfl rfl)
theorem dX5_endOf_66 : decode cX5_endOf 66 = .ok (.goto (-14), 3) := dk_167 255 242 (dk_at dksX5_endOf_2 20 rfl rfl)
theorem dX5_endOf_69 : decode cX5_endOf 69 = .ok (.iload_n 2, 1) := dk_28 (dk_at dksX5_endOf_2 23 rfl rfl)
theorem dX5_endOf_70 : decode cX5_endOf 70 = .ok (.bipush 60, 2) := dk_16 60 (dk_at dksX5_endOf_3 0 rfl rfl)
theorem dX5_endOf_72 : decode cX5_endOf 72 = .ok (.if_icmp .eq 9, 3) := dk_159 0 9 (dk_at dksX5_endOf_3 2 rfl rfl)
theorem dX5_endOf_75 : decode cX5_endOf 75 = .ok (.iload_n 2, 1) := dk_28 (dk_at dksX5_endOf_3 5 rfl rfl)
theorem dX5_endOf_76 : decode cX5_endOf 76 = .ok (.bipush 62, 2) := dk_16 62 (dk_at dksX5_endOf_3 6 rfl rfl)
theorem dX5_endOf_78 : decode cX5_endOf 78 = .ok (.if_icmp .ne 16, 3) := dk_160 0 16 (dk_at dksX5_endOf_3 8 rfl rfl)
theorem dX5_endOf_81 : decode cX5_endOf 81 = .ok (.aload_n 0, 1) := dk_42 (dk_at dksX5_endOf_3 11 rfl rfl)
theorem dX5_endOf_82 : decode cX5_endOf 82 = .ok (.iload_n 3, 1) := dk_29 (dk_at dksX5_endOf_3 12 rfl rfl)
theorem dX5_endOf_83 : decode cX5_endOf 83 = .ok (.invokevirtual 213, 3) := dk_182 0 213 (dk_at dksX5_endOf_3 13 rfl rfl)
theorem dX5_endOf_86 : decode cX5_endOf 86 = .ok (.bipush 61, 2) := dk_16 61 (dk_at dksX5_endOf_3 16 rfl rfl)
theorem dX5_endOf_88 : decode cX5_endOf 88 = .ok (.if_icmp .ne 6, 3) := dk_160 0 6 (dk_at dksX5_endOf_3 18 rfl rfl)
theorem dX5_endOf_91 : decode cX5_endOf 91 = .ok (.iinc 3 1, 3) := dk_132 3 1 (dk_at dksX5_endOf_3 21 rfl rfl)
theorem dX5_endOf_94 : decode cX5_endOf 94 = .ok (.iload_n 3, 1) := dk_29 (dk_at dksX5_endOf_4 0 rfl rfl)
theorem dX5_endOf_95 : decode cX5_endOf 95 = .ok (.ireturn, 1) := dk_172 (dk_at dksX5_endOf_4 1 rfl rfl)
abbrev mX5_endOf : sd_Y := (yX5_endOf, cX5_endOf, 4, some (.int), none)
def fX5_endOf_b81 (G : sd_G) (w0 : Nat) (w3 : Int32) : sd_M Int32 :=
  sd_bnd (sd_isC G 4 w0) fun _ =>
  sd_bnd (fX5_byteOf G w0 w3) fun r5 =>
  if r5 = 61 then (
    sd_bnd (sd_ret (w3 + 1)) fun x6 =>
    sd_ret x6)
  else (
    sd_ret w3)
set_option maxHeartbeats 4000000 in
theorem sX5_endOf_b81 (l : Launch) (G : sd_G) (a0 : Nat) (a1 : Int32) (ρ : Int32) (h2 : sd_H) (cT : Nat × Nat) (w0 : Nat) (w3 : Int32) (h : sd_H) (c : Nat × Nat) (hf : fX5_endOf_b81 G w0 w3 h = some (ρ, c, h2)) : sd_J mX5_endOf ((l, G), (1, 21), [.ref a0, .int a1], (sd_oI ρ, h2), cT) 81 [(0, .ref w0), (3, .int w3)] [] h c := by
  unfold fX5_endOf_b81 at hf
  refine sj_aload_n 0 dX5_endOf_81 rfl ?_
  refine sj_iload_n 1 dX5_endOf_82 rfl ?_
  obtain ⟨fs83, he83, hf⟩ := sd_isC_some hf
  refine sj_cI (rest := []) (fun _ _ _ e => sj_runV (n := 1) (As := [.int w3]) (rest := []) (sX5_byteOf l G w0 w3 h _ _ _ e) he83 rfl rfl rfl rfl q2936 q2938 qs45 q127 q2939 (by decide +kernel) rfl rfl ⟨Nat.le_of_ble_eq_true rfl, Nat.le_of_ble_eq_true rfl⟩ rfl (Nat.le_of_ble_eq_true rfl) dX5_endOf_83) hf (fun r5 h c hf => ?_)
  refine sj_bipush (v := 61) dX5_endOf_86 (by decide) ?_
  refine sj_icne 94 hf dX5_endOf_88 (by decide) (fun g88 hf => ?_) (fun g88 hf => ?_)
  · refine sj_iload_n 1 dX5_endOf_94 rfl ?_
    exact sj_iret (o := sd_oI) hf rfl rfl rfl dX5_endOf_95
  · refine sj_iincN 1 (fun x6 => [(3, .int x6), (0, .ref w0)]) 1 hf dX5_endOf_91 rfl (by decide) (by decide) (fun _ => rfl) (fun x6 hf => ?_)
    refine sj_iload_n 0 dX5_endOf_94 rfl ?_
    exact sj_iret (o := sd_oI) hf rfl rfl rfl dX5_endOf_95
def fX5_endOf_b69 (G : sd_G) (w0 : Nat) (w2 : Int32) (w3 : Int32) : sd_M Int32 :=
  if w2 = 60 then (
    fX5_endOf_b81 G w0 w3)
  else (
    if w2 = 62 then (
      fX5_endOf_b81 G w0 w3)
    else (
      sd_ret w3))
set_option maxHeartbeats 4000000 in
theorem sX5_endOf_b69 (l : Launch) (G : sd_G) (a0 : Nat) (a1 : Int32) (ρ : Int32) (h2 : sd_H) (cT : Nat × Nat) (w0 : Nat) (w2 : Int32) (w3 : Int32) (h : sd_H) (c : Nat × Nat) (hf : fX5_endOf_b69 G w0 w2 w3 h = some (ρ, c, h2)) : sd_J mX5_endOf ((l, G), (1, 21), [.ref a0, .int a1], (sd_oI ρ, h2), cT) 69 [(0, .ref w0), (2, .int w2), (3, .int w3)] [] h c := by
  unfold fX5_endOf_b69 at hf
  refine sj_iload_n 1 dX5_endOf_69 rfl ?_
  refine sj_bipush (v := 60) dX5_endOf_70 (by decide) ?_
  refine sj_iceq 81 hf dX5_endOf_72 (by decide) (fun g72 hf => ?_) (fun g72 hf => ?_)
  · exact sj_loc [0, 2] rfl (sX5_endOf_b81 l G a0 a1 ρ h2 cT w0 w3 _ _ hf)
  · refine sj_iload_n 1 dX5_endOf_75 rfl ?_
    refine sj_bipush (v := 62) dX5_endOf_76 (by decide) ?_
    refine sj_icne 94 hf dX5_endOf_78 (by decide) (fun g78 hf => ?_) (fun g78 hf => ?_)
    · refine sj_iload_n 2 dX5_endOf_94 rfl ?_
      exact sj_iret (o := sd_oI) hf rfl rfl rfl dX5_endOf_95
    · exact sj_loc [0, 2] rfl (sX5_endOf_b81 l G a0 a1 ρ h2 cT w0 w3 _ _ hf)
def fX5_endOf_b52 (G : sd_G) (k52 : Nat × Int32 × Int32 → sd_M Int32) (w0 : Nat) (w2 : Int32) (w3 : Int32) : sd_M Int32 :=
  sd_bnd (sd_isC G 4 w0) fun _ =>
  sd_bnd (fX5_byteOf G w0 w3) fun r7 =>
  sd_bnd (fX5_isDigit G r7) fun r8 =>
  if r8 = 0 then (
    fX5_endOf_b69 G w0 w2 w3)
  else (
    sd_bnd (sd_ret (w3 + 1)) fun x9 =>
    k52 (w0, w2, x9))
set_option maxHeartbeats 4000000 in
theorem sX5_endOf_b52 (l : Launch) (G : sd_G) (a0 : Nat) (a1 : Int32) (ρ : Int32) (h2 : sd_H) (cT : Nat × Nat) (k52 : Nat × Int32 × Int32 → sd_M Int32) (Hk52 : ∀ (q : Nat × Int32 × Int32) (h : sd_H) (c : Nat × Nat), k52 q h = some (ρ, c, h2) → sd_J mX5_endOf ((l, G), (1, 21), [.ref a0, .int a1], (sd_oI ρ, h2), cT) 52 [(0, .ref q.1), (2, .int q.2.1), (3, .int q.2.2)] [] h c) (w0 : Nat) (w2 : Int32) (w3 : Int32) (h : sd_H) (c : Nat × Nat) (hf : fX5_endOf_b52 G k52 w0 w2 w3 h = some (ρ, c, h2)) : sd_J mX5_endOf ((l, G), (1, 21), [.ref a0, .int a1], (sd_oI ρ, h2), cT) 52 [(0, .ref w0), (2, .int w2), (3, .int w3)] [] h c := by
  unfold fX5_endOf_b52 at hf
  refine sj_aload_n 0 dX5_endOf_52 rfl ?_
  refine sj_iload_n 2 dX5_endOf_53 rfl ?_
  obtain ⟨fs54, he54, hf⟩ := sd_isC_some hf
  refine sj_cI (rest := []) (fun _ _ _ e => sj_runV (n := 1) (As := [.int w3]) (rest := []) (sX5_byteOf l G w0 w3 h _ _ _ e) he54 rfl rfl rfl rfl q2936 q2938 qs45 q127 q2939 (by decide +kernel) rfl rfl ⟨Nat.le_of_ble_eq_true rfl, Nat.le_of_ble_eq_true rfl⟩ rfl (Nat.le_of_ble_eq_true rfl) dX5_endOf_54) hf (fun r7 h c hf => ?_)
  refine sj_cI (rest := []) (fun _ _ _ e => sj_runS (n := 1) (rest := []) (sX5_isDigit l G r7 h _ _ _ e) rfl rfl q2947 q2948 q127 q2949 (by decide +kernel) rfl ⟨Nat.le_of_ble_eq_true rfl, Nat.le_of_ble_eq_true rfl⟩ rfl (Nat.le_of_ble_eq_true rfl) dX5_endOf_57) hf (fun r8 h c hf => ?_)
  refine sj_ifeq 69 hf dX5_endOf_60 (by decide) (fun g60 hf => ?_) (fun g60 hf => ?_)
  · exact sj_loc [0, 1, 2] rfl (sX5_endOf_b69 l G a0 a1 ρ h2 cT w0 w2 w3 _ _ hf)
  · refine sj_iincN 2 (fun x9 => [(3, .int x9), (0, .ref w0), (2, .int w2)]) 1 hf dX5_endOf_63 rfl (by decide) (by decide) (fun _ => rfl) (fun x9 hf => ?_)
    refine sj_goto 52 dX5_endOf_66 (by decide) ?_
    exact sj_loc [1, 2, 0] rfl (Hk52 (w0, w2, x9) _ _ hf)
theorem sX5_endOf_b52_loop (l : Launch) (G : sd_G) (a0 : Nat) (a1 : Int32) (ρ : Int32) (h2 : sd_H) (cT : Nat × Nat) (n : Nat) : ∀ (q : Nat × Int32 × Int32) (h : sd_H) (c : Nat × Nat), sd_loop (fun k s => fX5_endOf_b52 G k s.1 s.2.1 s.2.2) n q h = some (ρ, c, h2) → sd_J mX5_endOf ((l, G), (1, 21), [.ref a0, .int a1], (sd_oI ρ, h2), cT) 52 [(0, .ref q.1), (2, .int q.2.1), (3, .int q.2.2)] [] h c := by
  induction n with
  | zero => intro q h c hf; cases hf
  | succ n ih => intro q h c hf; exact sX5_endOf_b52 l G a0 a1 ρ h2 cT _ ih _ _ _ _ _ hf
def fX5_endOf_b45 (G : sd_G) (w0 : Nat) (w2 : Int32) (w3 : Int32) : sd_M Int32 :=
  sd_bnd (fX5_isDigit G w2) fun r4 =>
  if r4 = 0 then (
    fX5_endOf_b69 G w0 w2 w3)
  else (
    sd_loop (fun k s => fX5_endOf_b52 G k s.1 s.2.1 s.2.2) sd_FU (w0, w2, w3))
set_option maxHeartbeats 4000000 in
theorem sX5_endOf_b45 (l : Launch) (G : sd_G) (a0 : Nat) (a1 : Int32) (ρ : Int32) (h2 : sd_H) (cT : Nat × Nat) (w0 : Nat) (w2 : Int32) (w3 : Int32) (h : sd_H) (c : Nat × Nat) (hf : fX5_endOf_b45 G w0 w2 w3 h = some (ρ, c, h2)) : sd_J mX5_endOf ((l, G), (1, 21), [.ref a0, .int a1], (sd_oI ρ, h2), cT) 45 [(0, .ref w0), (2, .int w2), (3, .int w3)] [] h c := by
  unfold fX5_endOf_b45 at hf
  refine sj_iload_n 1 dX5_endOf_45 rfl ?_
  refine sj_cI (rest := []) (fun _ _ _ e => sj_runS (n := 1) (rest := []) (sX5_isDigit l G w2 h _ _ _ e) rfl rfl q2947 q2948 q127 q2949 (by decide +kernel) rfl ⟨Nat.le_of_ble_eq_true rfl, Nat.le_of_ble_eq_true rfl⟩ rfl (Nat.le_of_ble_eq_true rfl) dX5_endOf_46) hf (fun r4 h c hf => ?_)
  refine sj_ifeq 69 hf dX5_endOf_49 (by decide) (fun g49 hf => ?_) (fun g49 hf => ?_)
  · exact sj_loc [0, 1, 2] rfl (sX5_endOf_b69 l G a0 a1 ρ h2 cT w0 w2 w3 _ _ hf)
  · exact sj_loc [0, 1, 2] rfl (sX5_endOf_b52_loop l G a0 a1 ρ h2 cT sd_FU (w0, w2, w3) _ _ hf)
def fX5_endOf_b17 (G : sd_G) (k17 : Nat × Int32 × Int32 → sd_M Int32) (w0 : Nat) (w2 : Int32) (w3 : Int32) : sd_M Int32 :=
  sd_bnd (sd_isC G 4 w0) fun _ =>
  sd_bnd (fX5_byteOf G w0 w3) fun r10 =>
  sd_bnd (fX5_isSmall G r10) fun r11 =>
  if r11 = 0 then (
    sd_bnd (sd_isC G 4 w0) fun _ =>
    sd_bnd (fX5_byteOf G w0 w3) fun r13 =>
    sd_bnd (fX5_isDigit G r13) fun r14 =>
    if r14 = 0 then (
      fX5_endOf_b45 G w0 w2 w3)
    else (
      sd_bnd (sd_ret (w3 + 1)) fun x15 =>
      k17 (w0, w2, x15)))
  else (
    sd_bnd (sd_ret (w3 + 1)) fun x12 =>
    k17 (w0, w2, x12))
set_option maxHeartbeats 4000000 in
theorem sX5_endOf_b17 (l : Launch) (G : sd_G) (a0 : Nat) (a1 : Int32) (ρ : Int32) (h2 : sd_H) (cT : Nat × Nat) (k17 : Nat × Int32 × Int32 → sd_M Int32) (Hk17 : ∀ (q : Nat × Int32 × Int32) (h : sd_H) (c : Nat × Nat), k17 q h = some (ρ, c, h2) → sd_J mX5_endOf ((l, G), (1, 21), [.ref a0, .int a1], (sd_oI ρ, h2), cT) 17 [(0, .ref q.1), (2, .int q.2.1), (3, .int q.2.2)] [] h c) (w0 : Nat) (w2 : Int32) (w3 : Int32) (h : sd_H) (c : Nat × Nat) (hf : fX5_endOf_b17 G k17 w0 w2 w3 h = some (ρ, c, h2)) : sd_J mX5_endOf ((l, G), (1, 21), [.ref a0, .int a1], (sd_oI ρ, h2), cT) 17 [(0, .ref w0), (2, .int w2), (3, .int w3)] [] h c := by
  unfold fX5_endOf_b17 at hf
  refine sj_aload_n 0 dX5_endOf_17 rfl ?_
  refine sj_iload_n 2 dX5_endOf_18 rfl ?_
  obtain ⟨fs19, he19, hf⟩ := sd_isC_some hf
  refine sj_cI (rest := []) (fun _ _ _ e => sj_runV (n := 1) (As := [.int w3]) (rest := []) (sX5_byteOf l G w0 w3 h _ _ _ e) he19 rfl rfl rfl rfl q2936 q2938 qs45 q127 q2939 (by decide +kernel) rfl rfl ⟨Nat.le_of_ble_eq_true rfl, Nat.le_of_ble_eq_true rfl⟩ rfl (Nat.le_of_ble_eq_true rfl) dX5_endOf_19) hf (fun r10 h c hf => ?_)
  refine sj_cI (rest := []) (fun _ _ _ e => sj_runS (n := 1) (rest := []) (sX5_isSmall l G r10 h _ _ _ e) rfl rfl q2944 q2945 q127 q2946 (by decide +kernel) rfl ⟨Nat.le_of_ble_eq_true rfl, Nat.le_of_ble_eq_true rfl⟩ rfl (Nat.le_of_ble_eq_true rfl) dX5_endOf_22) hf (fun r11 h c hf => ?_)
  refine sj_ifne 39 hf dX5_endOf_25 (by decide) (fun g25 hf => ?_) (fun g25 hf => ?_)
  · refine sj_iincN 2 (fun x12 => [(3, .int x12), (0, .ref w0), (2, .int w2)]) 1 hf dX5_endOf_39 rfl (by decide) (by decide) (fun _ => rfl) (fun x12 hf => ?_)
    refine sj_goto 17 dX5_endOf_42 (by decide) ?_
    exact sj_loc [1, 2, 0] rfl (Hk17 (w0, w2, x12) _ _ hf)
  · refine sj_aload_n 0 dX5_endOf_28 rfl ?_
    refine sj_iload_n 2 dX5_endOf_29 rfl ?_
    obtain ⟨fs30, he30, hf⟩ := sd_isC_some hf
    refine sj_cI (rest := []) (fun _ _ _ e => sj_runV (n := 1) (As := [.int w3]) (rest := []) (sX5_byteOf l G w0 w3 h _ _ _ e) he30 rfl rfl rfl rfl q2936 q2938 qs45 q127 q2939 (by decide +kernel) rfl rfl ⟨Nat.le_of_ble_eq_true rfl, Nat.le_of_ble_eq_true rfl⟩ rfl (Nat.le_of_ble_eq_true rfl) dX5_endOf_30) hf (fun r13 h c hf => ?_)
    refine sj_cI (rest := []) (fun _ _ _ e => sj_runS (n := 1) (rest := []) (sX5_isDigit l G r13 h _ _ _ e) rfl rfl q2947 q2948 q127 q2949 (by decide +kernel) rfl ⟨Nat.le_of_ble_eq_true rfl, Nat.le_of_ble_eq_true rfl⟩ rfl (Nat.le_of_ble_eq_true rfl) dX5_endOf_33) hf (fun r14 h c hf => ?_)
    refine sj_ifeq 45 hf dX5_endOf_36 (by decide) (fun g36 hf => ?_) (fun g36 hf => ?_)
    · exact sj_loc [0, 1, 2] rfl (sX5_endOf_b45 l G a0 a1 ρ h2 cT w0 w2 w3 _ _ hf)
    · refine sj_iincN 2 (fun x15 => [(3, .int x15), (0, .ref w0), (2, .int w2)]) 1 hf dX5_endOf_39 rfl (by decide) (by decide) (fun _ => rfl) (fun x15 hf => ?_)
      refine sj_goto 17 dX5_endOf_42 (by decide) ?_
      exact sj_loc [1, 2, 0] rfl (Hk17 (w0, w2, x15) _ _ hf)
theorem sX5_endOf_b17_loop (l : Launch) (G : sd_G) (a0 : Nat) (a1 : Int32) (ρ : Int32) (h2 : sd_H) (cT : Nat × Nat) (n : Nat) : ∀ (q : Nat × Int32 × Int32) (h : sd_H) (c : Nat × Nat), sd_loop (fun k s => fX5_endOf_b17 G k s.1 s.2.1 s.2.2) n q h = some (ρ, c, h2) → sd_J mX5_endOf ((l, G), (1, 21), [.ref a0, .int a1], (sd_oI ρ, h2), cT) 17 [(0, .ref q.1), (2, .int q.2.1), (3, .int q.2.2)] [] h c := by
  induction n with
  | zero => intro q h c hf; cases hf
  | succ n ih => intro q h c hf; exact sX5_endOf_b17 l G a0 a1 ρ h2 cT _ ih _ _ _ _ _ hf
def fX5_endOf (G : sd_G) (a0 : Nat) (a1 : Int32) : sd_M Int32 :=
  sd_bnd (sd_isC G 4 a0) fun _ =>
  sd_bnd (fX5_byteOf G a0 a1) fun r1 =>
  sd_bnd (sd_ret (a1 + 1)) fun x2 =>
  sd_bnd (fX5_isSmall G r1) fun r3 =>
  if r3 = 0 then (
    fX5_endOf_b45 G a0 r1 x2)
  else (
    sd_loop (fun k s => fX5_endOf_b17 G k s.1 s.2.1 s.2.2) sd_FU (a0, r1, x2))
set_option maxHeartbeats 4000000 in
theorem sX5_endOf (l : Launch) (G : sd_G) (a0 : Nat) (a1 : Int32) (h : sd_H) (ρ : Int32) (cT : Nat × Nat) (h2 : sd_H) (hf : fX5_endOf G a0 a1 h = some (ρ, cT, h2)) : sd_Met mX5_endOf ((l, G), (1, 21), [.ref a0, .int a1], (sd_oI ρ, h2), cT) h := by
  refine sd_entry (plainFor_of_name rfl) rfl (Nat.le_of_ble_eq_true rfl) ?_
  show sd_J mX5_endOf ((l, G), (1, 21), [.ref a0, .int a1], (sd_oI ρ, h2), cT) 0 [(0, .ref a0), (1, .int a1)] [] h cT
  unfold fX5_endOf at hf
  refine sj_aload_n 0 dX5_endOf_0 rfl ?_
  refine sj_iload_n 1 dX5_endOf_1 rfl ?_
  obtain ⟨fs2, he2, hf⟩ := sd_isC_some hf
  refine sj_cI (rest := []) (fun _ _ _ e => sj_runV (n := 1) (As := [.int a1]) (rest := []) (sX5_byteOf l G a0 a1 h _ _ _ e) he2 rfl rfl rfl rfl q2936 q2938 qs45 q127 q2939 (by decide +kernel) rfl rfl ⟨Nat.le_of_ble_eq_true rfl, Nat.le_of_ble_eq_true rfl⟩ rfl (Nat.le_of_ble_eq_true rfl) dX5_endOf_2) hf (fun r1 h c hf => ?_)
  refine sj_istore_n [(2, .int r1), (0, .ref a0), (1, .int a1)] dX5_endOf_5 (by decide) rfl ?_
  refine sj_iload_n 2 dX5_endOf_6 rfl ?_
  refine sj_iconst (v := 1) dX5_endOf_7 (by decide) ?_
  refine sj_iadd dX5_endOf_8 ?_
  refine sj_nameI hf (fun x2 hf => ?_)
  refine sj_istore_n [(3, .int x2), (2, .int r1), (0, .ref a0), (1, .int a1)] dX5_endOf_9 (by decide) rfl ?_
  refine sj_iload_n 1 dX5_endOf_10 rfl ?_
  refine sj_cI (rest := []) (fun _ _ _ e => sj_runS (n := 1) (rest := []) (sX5_isSmall l G r1 h _ _ _ e) rfl rfl q2944 q2945 q127 q2946 (by decide +kernel) rfl ⟨Nat.le_of_ble_eq_true rfl, Nat.le_of_ble_eq_true rfl⟩ rfl (Nat.le_of_ble_eq_true rfl) dX5_endOf_11) hf (fun r3 h c hf => ?_)
  refine sj_ifeq 45 hf dX5_endOf_14 (by decide) (fun g14 hf => ?_) (fun g14 hf => ?_)
  · exact sj_loc [2, 1, 0] rfl (sX5_endOf_b45 l G a0 a1 ρ h2 cT a0 r1 x2 _ _ hf)
  · exact sj_loc [2, 1, 0] rfl (sX5_endOf_b17_loop l G a0 a1 ρ h2 cT sd_FU (a0, r1, x2) _ _ hf)
/-! SofaDigModel.numberAt(III)I -/
abbrev cX5_numberAt : ByteArray := prog_46_method_44_code
def yX5_numberAt : MethodName := ⟨RX5, "numberAt", "(III)I"⟩
def dkwX5_numberAt_1 : List UInt8 := [96, 16, 48, 100, 54, 4, 132, 5, 1, 167, 255, 229, 42, 180, 0, 33, 27, 21, 4, 133, 80, 16, 31, 172]
abbrev dktX5_numberAt_1 : List UInt8 := dkwX5_numberAt_1 ++ []
def dkwX5_numberAt_0 : List UInt8 := [3, 54, 4, 28, 54, 5, 21, 5, 29, 162, 0, 27, 16, 10, 21, 4, 104, 42, 180, 0, 9, 21, 5, 46]
abbrev dktX5_numberAt_0 : List UInt8 := dkwX5_numberAt_0 ++ dktX5_numberAt_1
theorem dksX5_numberAt_0 : cX5_numberAt.data.toList.drop 0 = dktX5_numberAt_0 := by decide +kernel
theorem dksX5_numberAt_1 : cX5_numberAt.data.toList.drop 24 = dktX5_numberAt_1 := dk_seg dksX5_numberAt_0 24 rfl rfl
theorem dX5_numberAt_0 : decode cX5_numberAt 0 = .ok (.iconst 0, 1) := dk_3 (dk_at dksX5_numberAt_0 0 rfl rfl)
theorem dX5_numberAt_1 : decode cX5_numberAt 1 = .ok (.istore 4, 2) := dk_54 4 (dk_at dksX5_numberAt_0 1 rfl rfl)
theorem dX5_numberAt_3 : decode cX5_numberAt 3 = .ok (.iload_n 2, 1) := dk_28 (dk_at dksX5_numberAt_0 3 rfl rfl)
theorem dX5_numberAt_4 : decode cX5_numberAt 4 = .ok (.istore 5, 2) := dk_54 5 (dk_at dksX5_numberAt_0 4 rfl rfl)
theorem dX5_numberAt_6 : decode cX5_numberAt 6 = .ok (.iload 5, 2) := dk_21 5 (dk_at dksX5_numberAt_0 6 rfl rfl)
theorem dX5_numberAt_8 : decode cX5_numberAt 8 = .ok (.iload_n 3, 1) := dk_29 (dk_at dksX5_numberAt_0 8 rfl rfl)
theorem dX5_numberAt_9 : decode cX5_numberAt 9 = .ok (.if_icmp .ge 27, 3) := dk_162 0 27 (dk_at dksX5_numberAt_0 9 rfl rfl)
theorem dX5_numberAt_12 : decode cX5_numberAt 12 = .ok (.bipush 10, 2) := dk_16 10 (dk_at dksX5_numberAt_0 12 rfl rfl)
theorem dX5_numberAt_14 : decode cX5_numberAt 14 = .ok (.iload 4, 2) := dk_21 4 (dk_at dksX5_numberAt_0 14 rfl rfl)
theorem dX5_numberAt_16 : decode cX5_numberAt 16 = .ok (.imul, 1) := dk_104 (dk_at dksX5_numberAt_0 16 rfl rfl)
theorem dX5_numberAt_17 : decode cX5_numberAt 17 = .ok (.aload_n 0, 1) := dk_42 (dk_at dksX5_numberAt_0 17 rfl rfl)
theorem dX5_numberAt_18 : decode cX5_numberAt 18 = .ok (.getfield 9, 3) := dk_180 0 9 (dk_at dksX5_numberAt_0 18 rfl rfl)
theorem dX5_numberAt_21 : decode cX5_numberAt 21 = .ok (.iload 5, 2) := dk_21 5 (dk_at dksX5_numberAt_0 21 rfl rfl)
theorem dX5_numberAt_23 : decode cX5_numberAt 23 = .ok (.iaload, 1) := dk_46 (dk_at dksX5_numberAt_0 23 rfl rfl)
theorem dX5_numberAt_24 : decode cX5_numberAt 24 = .ok (.iadd, 1) := dk_96 (dk_at dksX5_numberAt_1 0 rfl rfl)
theorem dX5_numberAt_25 : decode cX5_numberAt 25 = .ok (.bipush 48, 2) := dk_16 48 (dk_at dksX5_numberAt_1 1 rfl rfl)
theorem dX5_numberAt_27 : decode cX5_numberAt 27 = .ok (.isub, 1) := dk_100 (dk_at dksX5_numberAt_1 3 rfl rfl)
theorem dX5_numberAt_28 : decode cX5_numberAt 28 = .ok (.istore 4, 2) := dk_54 4 (dk_at dksX5_numberAt_1 4 rfl rfl)
theorem dX5_numberAt_30 : decode cX5_numberAt 30 = .ok (.iinc 5 1, 3) := dk_132 5 1 (dk_at dksX5_numberAt_1 6 rfl rfl)
theorem dX5_numberAt_33 : decode cX5_numberAt 33 = .ok (.goto (-27), 3) := dk_167 255 229 (dk_at dksX5_numberAt_1 9 rfl rfl)
theorem dX5_numberAt_36 : decode cX5_numberAt 36 = .ok (.aload_n 0, 1) := dk_42 (dk_at dksX5_numberAt_1 12 rfl rfl)
theorem dX5_numberAt_37 : decode cX5_numberAt 37 = .ok (.getfield 33, 3) := dk_180 0 33 (dk_at dksX5_numberAt_1 13 rfl rfl)
theorem dX5_numberAt_40 : decode cX5_numberAt 40 = .ok (.iload_n 1, 1) := dk_27 (dk_at dksX5_numberAt_1 16 rfl rfl)
theorem dX5_numberAt_41 : decode cX5_numberAt 41 = .ok (.iload 4, 2) := dk_21 4 (dk_at dksX5_numberAt_1 17 rfl rfl)
theorem dX5_numberAt_43 : decode cX5_numberAt 43 = .ok (.i2l, 1) := dk_133 (dk_at dksX5_numberAt_1 19 rfl rfl)
theorem dX5_numberAt_44 : decode cX5_numberAt 44 = .ok (.lastore, 1) := dk_80 (dk_at dksX5_numberAt_1 20 rfl rfl)
theorem dX5_numberAt_45 : decode cX5_numberAt 45 = .ok (.bipush 31, 2) := dk_16 31 (dk_at dksX5_numberAt_1 21 rfl rfl)
theorem dX5_numberAt_47 : decode cX5_numberAt 47 = .ok (.ireturn, 1) := dk_172 (dk_at dksX5_numberAt_1 23 rfl rfl)
theorem fdX5_33_4 : sd_Fd "SofaDigModel" 33 4 8 := ⟨(RX5, TX5, 18), "SofaDigModel", rfl, by decide, rfl, in_X5, Or.inl rfl, Or.inl q2858⟩
abbrev mX5_numberAt : sd_Y := (yX5_numberAt, cX5_numberAt, 6, some (.int), none)
def fX5_numberAt_b6 (G : sd_G) (k6 : Nat × Int32 × Int32 × Int32 × Int32 → sd_M Int32) (w0 : Nat) (w1 : Int32) (w3 : Int32) (w4 : Int32) (w5 : Int32) : sd_M Int32 :=
  if w3 ≤ w5 then (
    sd_bnd (sd_getR G 4 8 w0) fun v1 =>
    sd_bnd (sd_astL v1 w1 (w4.toInt64)) fun _ =>
    sd_ret 31)
  else (
    sd_bnd (sd_getR G 4 1 w0) fun v2 =>
    sd_bnd (sd_aldI G 0 v2 w5) fun v3 =>
    sd_bnd (sd_ret ((((10 : Int32) * w4) + v3) - 48)) fun x4 =>
    sd_bnd (sd_ret (w5 + 1)) fun x5 =>
    k6 (w0, w1, w3, x4, x5))
set_option maxHeartbeats 4000000 in
theorem sX5_numberAt_b6 (l : Launch) (G : sd_G) (a0 : Nat) (a1 : Int32) (a2 : Int32) (a3 : Int32) (ρ : Int32) (h2 : sd_H) (cT : Nat × Nat) (k6 : Nat × Int32 × Int32 × Int32 × Int32 → sd_M Int32) (Hk6 : ∀ (q : Nat × Int32 × Int32 × Int32 × Int32) (h : sd_H) (c : Nat × Nat), k6 q h = some (ρ, c, h2) → sd_J mX5_numberAt ((l, G), (0, 0), [.ref a0, .int a1, .int a2, .int a3], (sd_oI ρ, h2), cT) 6 [(0, .ref q.1), (1, .int q.2.1), (3, .int q.2.2.1), (4, .int q.2.2.2.1), (5, .int q.2.2.2.2)] [] h c) (w0 : Nat) (w1 : Int32) (w3 : Int32) (w4 : Int32) (w5 : Int32) (h : sd_H) (c : Nat × Nat) (hf : fX5_numberAt_b6 G k6 w0 w1 w3 w4 w5 h = some (ρ, c, h2)) : sd_J mX5_numberAt ((l, G), (0, 0), [.ref a0, .int a1, .int a2, .int a3], (sd_oI ρ, h2), cT) 6 [(0, .ref w0), (1, .int w1), (3, .int w3), (4, .int w4), (5, .int w5)] [] h c := by
  unfold fX5_numberAt_b6 at hf
  refine sj_iload 4 dX5_numberAt_6 rfl ?_
  refine sj_iload_n 2 dX5_numberAt_8 rfl ?_
  refine sj_icge 36 hf dX5_numberAt_9 (by decide) (fun g9 hf => ?_) (fun g9 hf => ?_)
  · refine sj_aload_n 0 dX5_numberAt_36 rfl ?_
    refine sj_getR fdX5_33_4 hf dX5_numberAt_37 (fun v1 hf => ?_)
    refine sj_iload_n 1 dX5_numberAt_40 rfl ?_
    refine sj_iload 3 dX5_numberAt_41 rfl ?_
    refine sj_i2l dX5_numberAt_43 ?_
    refine sj_last hf dX5_numberAt_44 (fun h hf => ?_)
    refine sj_bipush (v := 31) dX5_numberAt_45 (by decide) ?_
    exact sj_iret (o := sd_oI) hf rfl rfl rfl dX5_numberAt_47
  · refine sj_bipush (v := 10) dX5_numberAt_12 (by decide) ?_
    refine sj_iload 3 dX5_numberAt_14 rfl ?_
    refine sj_imul dX5_numberAt_16 ?_
    refine sj_aload_n 0 dX5_numberAt_17 rfl ?_
    refine sj_getR fdX5_9_4 hf dX5_numberAt_18 (fun v2 hf => ?_)
    refine sj_iload 4 dX5_numberAt_21 rfl ?_
    refine sj_iald hf dX5_numberAt_23 (fun v3 hf => ?_)
    refine sj_iadd dX5_numberAt_24 ?_
    refine sj_bipush (v := 48) dX5_numberAt_25 (by decide) ?_
    refine sj_isub dX5_numberAt_27 ?_
    refine sj_nameI hf (fun x4 hf => ?_)
    refine sj_istore [(4, .int x4), (0, .ref w0), (1, .int w1), (3, .int w3), (5, .int w5)] dX5_numberAt_28 (by decide) rfl ?_
    refine sj_iincN 4 (fun x5 => [(5, .int x5), (4, .int x4), (0, .ref w0), (1, .int w1), (3, .int w3)]) 1 hf dX5_numberAt_30 rfl (by decide) (by decide) (fun _ => rfl) (fun x5 hf => ?_)
    refine sj_goto 6 dX5_numberAt_33 (by decide) ?_
    exact sj_loc [2, 3, 4, 1, 0] rfl (Hk6 (w0, w1, w3, x4, x5) _ _ hf)
theorem sX5_numberAt_b6_loop (l : Launch) (G : sd_G) (a0 : Nat) (a1 : Int32) (a2 : Int32) (a3 : Int32) (ρ : Int32) (h2 : sd_H) (cT : Nat × Nat) (n : Nat) : ∀ (q : Nat × Int32 × Int32 × Int32 × Int32) (h : sd_H) (c : Nat × Nat), sd_loop (fun k s => fX5_numberAt_b6 G k s.1 s.2.1 s.2.2.1 s.2.2.2.1 s.2.2.2.2) n q h = some (ρ, c, h2) → sd_J mX5_numberAt ((l, G), (0, 0), [.ref a0, .int a1, .int a2, .int a3], (sd_oI ρ, h2), cT) 6 [(0, .ref q.1), (1, .int q.2.1), (3, .int q.2.2.1), (4, .int q.2.2.2.1), (5, .int q.2.2.2.2)] [] h c := by
  induction n with
  | zero => intro q h c hf; cases hf
  | succ n ih => intro q h c hf; exact sX5_numberAt_b6 l G a0 a1 a2 a3 ρ h2 cT _ ih _ _ _ _ _ _ _ hf
def fX5_numberAt (G : sd_G) (a0 : Nat) (a1 : Int32) (a2 : Int32) (a3 : Int32) : sd_M Int32 :=
  sd_loop (fun k s => fX5_numberAt_b6 G k s.1 s.2.1 s.2.2.1 s.2.2.2.1 s.2.2.2.2) sd_FU (a0, a1, a3, 0, a2)
set_option maxHeartbeats 4000000 in
theorem sX5_numberAt (l : Launch) (G : sd_G) (a0 : Nat) (a1 : Int32) (a2 : Int32) (a3 : Int32) (h : sd_H) (ρ : Int32) (cT : Nat × Nat) (h2 : sd_H) (hf : fX5_numberAt G a0 a1 a2 a3 h = some (ρ, cT, h2)) : sd_Met mX5_numberAt ((l, G), (0, 0), [.ref a0, .int a1, .int a2, .int a3], (sd_oI ρ, h2), cT) h := by
  refine sd_entry (plainFor_of_name rfl) rfl (Nat.le_of_ble_eq_true rfl) ?_
  show sd_J mX5_numberAt ((l, G), (0, 0), [.ref a0, .int a1, .int a2, .int a3], (sd_oI ρ, h2), cT) 0 [(0, .ref a0), (1, .int a1), (2, .int a2), (3, .int a3)] [] h cT
  unfold fX5_numberAt at hf
  refine sj_iconst (v := 0) dX5_numberAt_0 (by decide) ?_
  refine sj_istore [(4, .int 0), (0, .ref a0), (1, .int a1), (2, .int a2), (3, .int a3)] dX5_numberAt_1 (by decide) rfl ?_
  refine sj_iload_n 3 dX5_numberAt_3 rfl ?_
  refine sj_istore [(5, .int a2), (4, .int 0), (0, .ref a0), (1, .int a1), (2, .int a2), (3, .int a3)] dX5_numberAt_4 (by decide) rfl ?_
  exact sj_loc [2, 3, 5, 1, 0] rfl (sX5_numberAt_b6_loop l G a0 a1 a2 a3 ρ h2 cT sd_FU (a0, a1, a3, 0, a2) _ _ hf)
/-! SofaDigModel.letter(I)I -/
abbrev cX5_letter : ByteArray := prog_46_method_45_code
def yX5_letter : MethodName := ⟨RX5, "letter", "(I)I"⟩
def dkwX5_letter_0 : List UInt8 := [26, 184, 0, 216, 153, 0, 12, 26, 16, 97, 100, 4, 96, 167, 0, 10, 26, 16, 48, 100, 16, 27, 96, 172]
abbrev dktX5_letter_0 : List UInt8 := dkwX5_letter_0 ++ []
theorem dksX5_letter_0 : cX5_letter.data.toList.drop 0 = dktX5_letter_0 := by decide +kernel
theorem dX5_letter_0 : decode cX5_letter 0 = .ok (.iload_n 0, 1) := dk_26 (dk_at dksX5_letter_0 0 rfl rfl)
theorem dX5_letter_1 : decode cX5_letter 1 = .ok (.invokestatic 216, 3) := dk_184 0 216 (dk_at dksX5_letter_0 1 rfl rfl)
theorem dX5_letter_4 : decode cX5_letter 4 = .ok (.ifCond .eq 12, 3) := dk_153 0 12 (dk_at dksX5_letter_0 4 rfl rfl)
theorem dX5_letter_7 : decode cX5_letter 7 = .ok (.iload_n 0, 1) := dk_26 (dk_at dksX5_letter_0 7 rfl rfl)
theorem dX5_letter_8 : decode cX5_letter 8 = .ok (.bipush 97, 2) := dk_16 97 (dk_at dksX5_letter_0 8 rfl rfl)
theorem dX5_letter_10 : decode cX5_letter 10 = .ok (.isub, 1) := dk_100 (dk_at dksX5_letter_0 10 rfl rfl)
theorem dX5_letter_11 : decode cX5_letter 11 = .ok (.iconst 1, 1) := dk_4 (dk_at dksX5_letter_0 11 rfl rfl)
theorem dX5_letter_12 : decode cX5_letter 12 = .ok (.iadd, 1) := dk_96 (dk_at dksX5_letter_0 12 rfl rfl)
theorem dX5_letter_13 : decode cX5_letter 13 = .ok (.goto 10, 3) := dk_167 0 10 (dk_at dksX5_letter_0 13 rfl rfl)
theorem dX5_letter_16 : decode cX5_letter 16 = .ok (.iload_n 0, 1) := dk_26 (dk_at dksX5_letter_0 16 rfl rfl)
theorem dX5_letter_17 : decode cX5_letter 17 = .ok (.bipush 48, 2) := dk_16 48 (dk_at dksX5_letter_0 17 rfl rfl)
theorem dX5_letter_19 : decode cX5_letter 19 = .ok (.isub, 1) := dk_100 (dk_at dksX5_letter_0 19 rfl rfl)
theorem dX5_letter_20 : decode cX5_letter 20 = .ok (.bipush 27, 2) := dk_16 27 (dk_at dksX5_letter_0 20 rfl rfl)
theorem dX5_letter_22 : decode cX5_letter 22 = .ok (.iadd, 1) := dk_96 (dk_at dksX5_letter_0 22 rfl rfl)
theorem dX5_letter_23 : decode cX5_letter 23 = .ok (.ireturn, 1) := dk_172 (dk_at dksX5_letter_0 23 rfl rfl)
abbrev mX5_letter : sd_Y := (yX5_letter, cX5_letter, 1, some (.int), none)
def fX5_letter (G : sd_G) (a1 : Int32) : sd_M Int32 :=
  sd_bnd (fX5_isSmall G a1) fun r1 =>
  if r1 = 0 then (
    sd_ret ((a1 - 48) + 27))
  else (
    sd_ret ((a1 - 97) + 1))
set_option maxHeartbeats 4000000 in
theorem sX5_letter (l : Launch) (G : sd_G) (a1 : Int32) (h : sd_H) (ρ : Int32) (cT : Nat × Nat) (h2 : sd_H) (hf : fX5_letter G a1 h = some (ρ, cT, h2)) : sd_Met mX5_letter ((l, G), (1, 20), [.int a1], (sd_oI ρ, h2), cT) h := by
  refine sd_entry (plainFor_of_name rfl) rfl (Nat.le_of_ble_eq_true rfl) ?_
  show sd_J mX5_letter ((l, G), (1, 20), [.int a1], (sd_oI ρ, h2), cT) 0 [(0, .int a1)] [] h cT
  unfold fX5_letter at hf
  refine sj_iload_n 0 dX5_letter_0 rfl ?_
  refine sj_cI (rest := []) (fun _ _ _ e => sj_runS (n := 1) (rest := []) (sX5_isSmall l G a1 h _ _ _ e) rfl rfl q2944 q2945 q127 q2946 (by decide +kernel) rfl ⟨Nat.le_of_ble_eq_true rfl, Nat.le_of_ble_eq_true rfl⟩ rfl (Nat.le_of_ble_eq_true rfl) dX5_letter_1) hf (fun r1 h c hf => ?_)
  refine sj_ifeq 16 hf dX5_letter_4 (by decide) (fun g4 hf => ?_) (fun g4 hf => ?_)
  · refine sj_iload_n 0 dX5_letter_16 rfl ?_
    refine sj_bipush (v := 48) dX5_letter_17 (by decide) ?_
    refine sj_isub dX5_letter_19 ?_
    refine sj_bipush (v := 27) dX5_letter_20 (by decide) ?_
    refine sj_iadd dX5_letter_22 ?_
    exact sj_iret (o := sd_oI) hf rfl rfl rfl dX5_letter_23
  · refine sj_iload_n 0 dX5_letter_7 rfl ?_
    refine sj_bipush (v := 97) dX5_letter_8 (by decide) ?_
    refine sj_isub dX5_letter_10 ?_
    refine sj_iconst (v := 1) dX5_letter_11 (by decide) ?_
    refine sj_iadd dX5_letter_12 ?_
    refine sj_goto 23 dX5_letter_13 (by decide) ?_
    exact sj_iret (o := sd_oI) hf rfl rfl rfl dX5_letter_23
/-! SofaDigModel.nameOf(Ljava/lang/String;)J -/
abbrev cX5_nameOf : ByteArray := prog_46_method_46_code
def yX5_nameOf : MethodName := ⟨RX5, "nameOf", "(Ljava/lang/String;)J"⟩
def dkwX5_nameOf_1 : List UInt8 := [184, 0, 239, 133, 97, 64, 132, 3, 1, 167, 255, 229, 31, 173]
abbrev dktX5_nameOf_1 : List UInt8 := dkwX5_nameOf_1 ++ []
def dkwX5_nameOf_0 : List UInt8 := [9, 64, 3, 62, 29, 42, 182, 0, 228, 162, 0, 25, 20, 0, 233, 31, 105, 42, 29, 182, 0, 235]
abbrev dktX5_nameOf_0 : List UInt8 := dkwX5_nameOf_0 ++ dktX5_nameOf_1
theorem dksX5_nameOf_0 : cX5_nameOf.data.toList.drop 0 = dktX5_nameOf_0 := by decide +kernel
theorem dksX5_nameOf_1 : cX5_nameOf.data.toList.drop 22 = dktX5_nameOf_1 := dk_seg dksX5_nameOf_0 22 rfl rfl
theorem dX5_nameOf_0 : decode cX5_nameOf 0 = .ok (.lconst 0, 1) := dk_9 (dk_at dksX5_nameOf_0 0 rfl rfl)
theorem dX5_nameOf_1 : decode cX5_nameOf 1 = .ok (.lstore_n 1, 1) := dk_64 (dk_at dksX5_nameOf_0 1 rfl rfl)
theorem dX5_nameOf_2 : decode cX5_nameOf 2 = .ok (.iconst 0, 1) := dk_3 (dk_at dksX5_nameOf_0 2 rfl rfl)
theorem dX5_nameOf_3 : decode cX5_nameOf 3 = .ok (.istore_n 3, 1) := dk_62 (dk_at dksX5_nameOf_0 3 rfl rfl)
theorem dX5_nameOf_4 : decode cX5_nameOf 4 = .ok (.iload_n 3, 1) := dk_29 (dk_at dksX5_nameOf_0 4 rfl rfl)
theorem dX5_nameOf_5 : decode cX5_nameOf 5 = .ok (.aload_n 0, 1) := dk_42 (dk_at dksX5_nameOf_0 5 rfl rfl)
theorem dX5_nameOf_6 : decode cX5_nameOf 6 = .ok (.invokevirtual 228, 3) := dk_182 0 228 (dk_at dksX5_nameOf_0 6 rfl rfl)
theorem dX5_nameOf_9 : decode cX5_nameOf 9 = .ok (.if_icmp .ge 25, 3) := dk_162 0 25 (dk_at dksX5_nameOf_0 9 rfl rfl)
theorem dX5_nameOf_12 : decode cX5_nameOf 12 = .ok (.ldc2_w 233, 3) := dk_20 0 233 (dk_at dksX5_nameOf_0 12 rfl rfl)
theorem dX5_nameOf_15 : decode cX5_nameOf 15 = .ok (.lload_n 1, 1) := dk_31 (dk_at dksX5_nameOf_0 15 rfl rfl)
theorem dX5_nameOf_16 : decode cX5_nameOf 16 = .ok (.lmul, 1) := dk_105 (dk_at dksX5_nameOf_0 16 rfl rfl)
theorem dX5_nameOf_17 : decode cX5_nameOf 17 = .ok (.aload_n 0, 1) := dk_42 (dk_at dksX5_nameOf_0 17 rfl rfl)
theorem dX5_nameOf_18 : decode cX5_nameOf 18 = .ok (.iload_n 3, 1) := dk_29 (dk_at dksX5_nameOf_0 18 rfl rfl)
theorem dX5_nameOf_19 : decode cX5_nameOf 19 = .ok (.invokevirtual 235, 3) := dk_182 0 235 (dk_at dksX5_nameOf_0 19 rfl rfl)
theorem dX5_nameOf_22 : decode cX5_nameOf 22 = .ok (.invokestatic 239, 3) := dk_184 0 239 (dk_at dksX5_nameOf_1 0 rfl rfl)
theorem dX5_nameOf_25 : decode cX5_nameOf 25 = .ok (.i2l, 1) := dk_133 (dk_at dksX5_nameOf_1 3 rfl rfl)
theorem dX5_nameOf_26 : decode cX5_nameOf 26 = .ok (.ladd, 1) := dk_97 (dk_at dksX5_nameOf_1 4 rfl rfl)
theorem dX5_nameOf_27 : decode cX5_nameOf 27 = .ok (.lstore_n 1, 1) := dk_64 (dk_at dksX5_nameOf_1 5 rfl rfl)
theorem dX5_nameOf_28 : decode cX5_nameOf 28 = .ok (.iinc 3 1, 3) := dk_132 3 1 (dk_at dksX5_nameOf_1 6 rfl rfl)
theorem dX5_nameOf_31 : decode cX5_nameOf 31 = .ok (.goto (-27), 3) := dk_167 255 229 (dk_at dksX5_nameOf_1 9 rfl rfl)
theorem dX5_nameOf_34 : decode cX5_nameOf 34 = .ok (.lload_n 1, 1) := dk_31 (dk_at dksX5_nameOf_1 12 rfl rfl)
theorem dX5_nameOf_35 : decode cX5_nameOf 35 = .ok (.lreturn, 1) := dk_173 (dk_at dksX5_nameOf_1 13 rfl rfl)
abbrev mX5_nameOf : sd_Y := (yX5_nameOf, cX5_nameOf, 4, some (.long), none)
def fX5_nameOf_b4 (G : sd_G) (k4 : Nat × Int64 × Int32 → sd_M Int64) (w0 : Nat) (w1 : Int64) (w3 : Int32) : sd_M Int64 :=
  sd_bnd (sd_isC G 45 w0) fun _ =>
  sd_bnd (fJ14_length G w0) fun r1 =>
  if r1 ≤ w3 then (
    sd_ret w1)
  else (
    sd_bnd (sd_isC G 45 w0) fun _ =>
    sd_bnd (fJ14_charAt G w0 w3) fun r2 =>
    sd_bnd (fX5_letter G r2) fun r3 =>
    sd_bnd (sd_ret (((37 : Int64) * w1) + (r3.toInt64))) fun x4 =>
    sd_bnd (sd_ret (w3 + 1)) fun x5 =>
    k4 (w0, x4, x5))
set_option maxHeartbeats 4000000 in
theorem sX5_nameOf_b4 (l : Launch) (G : sd_G) (a1 : Nat) (ρ : Int64) (h2 : sd_H) (cT : Nat × Nat) (k4 : Nat × Int64 × Int32 → sd_M Int64) (Hk4 : ∀ (q : Nat × Int64 × Int32) (h : sd_H) (c : Nat × Nat), k4 q h = some (ρ, c, h2) → sd_J mX5_nameOf ((l, G), (4, 85), [.ref a1], (sd_oL ρ, h2), cT) 4 [(0, .ref q.1), (1, .long q.2.1), (3, .int q.2.2)] [] h c) (w0 : Nat) (w1 : Int64) (w3 : Int32) (h : sd_H) (c : Nat × Nat) (hf : fX5_nameOf_b4 G k4 w0 w1 w3 h = some (ρ, c, h2)) : sd_J mX5_nameOf ((l, G), (4, 85), [.ref a1], (sd_oL ρ, h2), cT) 4 [(0, .ref w0), (1, .long w1), (3, .int w3)] [] h c := by
  unfold fX5_nameOf_b4 at hf
  refine sj_iload_n 2 dX5_nameOf_4 rfl ?_
  refine sj_aload_n 0 dX5_nameOf_5 rfl ?_
  obtain ⟨fs6, he6, hf⟩ := sd_isC_some hf
  refine sj_cI (rest := [.int w3]) (fun _ _ _ e => sj_runV (n := 0) (As := []) (rest := [.int w3]) (sJ14_length l G w0 h _ _ _ e) he6 rfl rfl rfl rfl q2971 q770 q771 q141 q772 (by decide +kernel) rfl rfl ⟨Nat.le_of_ble_eq_true rfl, Nat.le_of_ble_eq_true rfl⟩ rfl (Nat.le_of_ble_eq_true rfl) dX5_nameOf_6) hf (fun r1 h c hf => ?_)
  refine sj_icge 34 hf dX5_nameOf_9 (by decide) (fun g9 hf => ?_) (fun g9 hf => ?_)
  · refine sj_lload_n 1 dX5_nameOf_34 rfl ?_
    exact sj_lret (o := sd_oL) hf rfl rfl rfl dX5_nameOf_35
  · refine sj_ldc2 q2962 dX5_nameOf_12 ?_
    refine sj_lload_n 1 dX5_nameOf_15 rfl ?_
    refine sj_lmul dX5_nameOf_16 ?_
    refine sj_aload_n 0 dX5_nameOf_17 rfl ?_
    refine sj_iload_n 2 dX5_nameOf_18 rfl ?_
    obtain ⟨fs19, he19, hf⟩ := sd_isC_some hf
    refine sj_cI (rest := [.long ((37 : Int64) * w1)]) (fun _ _ _ e => sj_runV (n := 1) (As := [.int w3]) (rest := [.long ((37 : Int64) * w1)]) (sJ14_charAt l G w0 w3 h _ _ _ e) he19 rfl rfl rfl rfl q2972 q1066 q1067 q141 q1068 (by decide +kernel) rfl rfl ⟨Nat.le_of_ble_eq_true rfl, Nat.le_of_ble_eq_true rfl⟩ rfl (Nat.le_of_ble_eq_true rfl) dX5_nameOf_19) hf (fun r2 h c hf => ?_)
    refine sj_cI (rest := [.long ((37 : Int64) * w1)]) (fun _ _ _ e => sj_runS (n := 1) (rest := [.long ((37 : Int64) * w1)]) (sX5_letter l G r2 h _ _ _ e) rfl rfl q2963 q2964 q127 q2965 (by decide +kernel) rfl ⟨Nat.le_of_ble_eq_true rfl, Nat.le_of_ble_eq_true rfl⟩ rfl (Nat.le_of_ble_eq_true rfl) dX5_nameOf_22) hf (fun r3 h c hf => ?_)
    refine sj_i2l dX5_nameOf_25 ?_
    refine sj_ladd dX5_nameOf_26 ?_
    refine sj_nameL hf (fun x4 hf => ?_)
    refine sj_lstore_n [(1, .long x4), (0, .ref w0), (3, .int w3)] dX5_nameOf_27 (by decide) rfl ?_
    refine sj_iincN 2 (fun x5 => [(3, .int x5), (1, .long x4), (0, .ref w0)]) 1 hf dX5_nameOf_28 rfl (by decide) (by decide) (fun _ => rfl) (fun x5 hf => ?_)
    refine sj_goto 4 dX5_nameOf_31 (by decide) ?_
    exact sj_loc [2, 1, 0] rfl (Hk4 (w0, x4, x5) _ _ hf)
theorem sX5_nameOf_b4_loop (l : Launch) (G : sd_G) (a1 : Nat) (ρ : Int64) (h2 : sd_H) (cT : Nat × Nat) (n : Nat) : ∀ (q : Nat × Int64 × Int32) (h : sd_H) (c : Nat × Nat), sd_loop (fun k s => fX5_nameOf_b4 G k s.1 s.2.1 s.2.2) n q h = some (ρ, c, h2) → sd_J mX5_nameOf ((l, G), (4, 85), [.ref a1], (sd_oL ρ, h2), cT) 4 [(0, .ref q.1), (1, .long q.2.1), (3, .int q.2.2)] [] h c := by
  induction n with
  | zero => intro q h c hf; cases hf
  | succ n ih => intro q h c hf; exact sX5_nameOf_b4 l G a1 ρ h2 cT _ ih _ _ _ _ _ hf
def fX5_nameOf (G : sd_G) (a1 : Nat) : sd_M Int64 :=
  sd_loop (fun k s => fX5_nameOf_b4 G k s.1 s.2.1 s.2.2) sd_FU (a1, 0, 0)
set_option maxHeartbeats 4000000 in
theorem sX5_nameOf (l : Launch) (G : sd_G) (a1 : Nat) (h : sd_H) (ρ : Int64) (cT : Nat × Nat) (h2 : sd_H) (hf : fX5_nameOf G a1 h = some (ρ, cT, h2)) : sd_Met mX5_nameOf ((l, G), (4, 85), [.ref a1], (sd_oL ρ, h2), cT) h := by
  refine sd_entry (plainFor_of_name rfl) rfl (Nat.le_of_ble_eq_true rfl) ?_
  show sd_J mX5_nameOf ((l, G), (4, 85), [.ref a1], (sd_oL ρ, h2), cT) 0 [(0, .ref a1)] [] h cT
  unfold fX5_nameOf at hf
  refine sj_lconst (v := 0) dX5_nameOf_0 (by decide) ?_
  refine sj_lstore_n [(1, .long 0), (0, .ref a1)] dX5_nameOf_1 (by decide) rfl ?_
  refine sj_iconst (v := 0) dX5_nameOf_2 (by decide) ?_
  refine sj_istore_n [(3, .int 0), (1, .long 0), (0, .ref a1)] dX5_nameOf_3 (by decide) rfl ?_
  exact sj_loc [2, 1, 0] rfl (sX5_nameOf_b4_loop l G a1 ρ h2 cT sd_FU (a1, 0, 0) _ _ hf)
/-! SofaDigModel.wordAt(III)I -/
abbrev cX5_wordAt : ByteArray := prog_46_method_47_code
def yX5_wordAt : MethodName := ⟨RX5, "wordAt", "(III)I"⟩
def dkwX5_wordAt_3 : List UInt8 := [154, 0, 6, 21, 6, 172, 132, 6, 1, 167, 255, 226, 16, 30, 172]
abbrev dktX5_wordAt_3 : List UInt8 := dkwX5_wordAt_3 ++ []
def dkwX5_wordAt_2 : List UInt8 := [54, 6, 21, 6, 178, 0, 242, 190, 162, 0, 27, 178, 0, 242, 21, 6, 50, 184, 0, 246, 22, 4, 148]
abbrev dktX5_wordAt_2 : List UInt8 := dkwX5_wordAt_2 ++ dktX5_wordAt_3
def dkwX5_wordAt_1 : List UInt8 := [46, 184, 0, 239, 133, 97, 55, 4, 132, 6, 1, 167, 255, 227, 42, 180, 0, 33, 27, 22, 4, 80, 3]
abbrev dktX5_wordAt_1 : List UInt8 := dkwX5_wordAt_1 ++ dktX5_wordAt_2
def dkwX5_wordAt_0 : List UInt8 := [9, 55, 4, 28, 54, 6, 21, 6, 29, 162, 0, 29, 20, 0, 233, 22, 4, 105, 42, 180, 0, 9, 21, 6]
abbrev dktX5_wordAt_0 : List UInt8 := dkwX5_wordAt_0 ++ dktX5_wordAt_1
theorem dksX5_wordAt_0 : cX5_wordAt.data.toList.drop 0 = dktX5_wordAt_0 := by decide +kernel
theorem dksX5_wordAt_1 : cX5_wordAt.data.toList.drop 24 = dktX5_wordAt_1 := dk_seg dksX5_wordAt_0 24 rfl rfl
theorem dksX5_wordAt_2 : cX5_wordAt.data.toList.drop 47 = dktX5_wordAt_2 := dk_seg dksX5_wordAt_1 23 rfl rfl
theorem dksX5_wordAt_3 : cX5_wordAt.data.toList.drop 70 = dktX5_wordAt_3 := dk_seg dksX5_wordAt_2 23 rfl rfl
theorem dX5_wordAt_0 : decode cX5_wordAt 0 = .ok (.lconst 0, 1) := dk_9 (dk_at dksX5_wordAt_0 0 rfl rfl)
theorem dX5_wordAt_1 : decode cX5_wordAt 1 = .ok (.lstore 4, 2) := dk_55 4 (dk_at dksX5_wordAt_0 1 rfl rfl)
theorem dX5_wordAt_3 : decode cX5_wordAt 3 = .ok (.iload_n 2, 1) := dk_28 (dk_at dksX5_wordAt_0 3 rfl rfl)
theorem dX5_wordAt_4 : decode cX5_wordAt 4 = .ok (.istore 6, 2) := dk_54 6 (dk_at dksX5_wordAt_0 4 rfl rfl)
theorem dX5_wordAt_6 : decode cX5_wordAt 6 = .ok (.iload 6, 2) := dk_21 6 (dk_at dksX5_wordAt_0 6 rfl rfl)
theorem dX5_wordAt_8 : decode cX5_wordAt 8 = .ok (.iload_n 3, 1) := dk_29 (dk_at dksX5_wordAt_0 8 rfl rfl)
theorem dX5_wordAt_9 : decode cX5_wordAt 9 = .ok (.if_icmp .ge 29, 3) := dk_162 0 29 (dk_at dksX5_wordAt_0 9 rfl rfl)
theorem dX5_wordAt_12 : decode cX5_wordAt 12 = .ok (.ldc2_w 233, 3) := dk_20 0 233 (dk_at dksX5_wordAt_0 12 rfl rfl)
theorem dX5_wordAt_15 : decode cX5_wordAt 15 = .ok (.lload 4, 2) := dk_22 4 (dk_at dksX5_wordAt_0 15 rfl rfl)
theorem dX5_wordAt_17 : decode cX5_wordAt 17 = .ok (.lmul, 1) := dk_105 (dk_at dksX5_wordAt_0 17 rfl rfl)
theorem dX5_wordAt_18 : decode cX5_wordAt 18 = .ok (.aload_n 0, 1) := dk_42 (dk_at dksX5_wordAt_0 18 rfl rfl)
theorem dX5_wordAt_19 : decode cX5_wordAt 19 = .ok (.getfield 9, 3) := dk_180 0 9 (dk_at dksX5_wordAt_0 19 rfl rfl)
theorem dX5_wordAt_22 : decode cX5_wordAt 22 = .ok (.iload 6, 2) := dk_21 6 (dk_at dksX5_wordAt_0 22 rfl rfl)
theorem dX5_wordAt_24 : decode cX5_wordAt 24 = .ok (.iaload, 1) := dk_46 (dk_at dksX5_wordAt_1 0 rfl rfl)
theorem dX5_wordAt_25 : decode cX5_wordAt 25 = .ok (.invokestatic 239, 3) := dk_184 0 239 (dk_at dksX5_wordAt_1 1 rfl rfl)
theorem dX5_wordAt_28 : decode cX5_wordAt 28 = .ok (.i2l, 1) := dk_133 (dk_at dksX5_wordAt_1 4 rfl rfl)
theorem dX5_wordAt_29 : decode cX5_wordAt 29 = .ok (.ladd, 1) := dk_97 (dk_at dksX5_wordAt_1 5 rfl rfl)
theorem dX5_wordAt_30 : decode cX5_wordAt 30 = .ok (.lstore 4, 2) := dk_55 4 (dk_at dksX5_wordAt_1 6 rfl rfl)
theorem dX5_wordAt_32 : decode cX5_wordAt 32 = .ok (.iinc 6 1, 3) := dk_132 6 1 (dk_at dksX5_wordAt_1 8 rfl rfl)
theorem dX5_wordAt_35 : decode cX5_wordAt 35 = .ok (.goto (-29), 3) := dk_167 255 227 (dk_at dksX5_wordAt_1 11 rfl rfl)
theorem dX5_wordAt_38 : decode cX5_wordAt 38 = .ok (.aload_n 0, 1) := dk_42 (dk_at dksX5_wordAt_1 14 rfl rfl)
theorem dX5_wordAt_39 : decode cX5_wordAt 39 = .ok (.getfield 33, 3) := dk_180 0 33 (dk_at dksX5_wordAt_1 15 rfl rfl)
theorem dX5_wordAt_42 : decode cX5_wordAt 42 = .ok (.iload_n 1, 1) := dk_27 (dk_at dksX5_wordAt_1 18 rfl rfl)
theorem dX5_wordAt_43 : decode cX5_wordAt 43 = .ok (.lload 4, 2) := dk_22 4 (dk_at dksX5_wordAt_1 19 rfl rfl)
theorem dX5_wordAt_45 : decode cX5_wordAt 45 = .ok (.lastore, 1) := dk_80 (dk_at dksX5_wordAt_1 21 rfl rfl)
theorem dX5_wordAt_46 : decode cX5_wordAt 46 = .ok (.iconst 0, 1) := dk_3 (dk_at dksX5_wordAt_1 22 rfl rfl)
theorem dX5_wordAt_47 : decode cX5_wordAt 47 = .ok (.istore 6, 2) := dk_54 6 (dk_at dksX5_wordAt_2 0 rfl rfl)
theorem dX5_wordAt_49 : decode cX5_wordAt 49 = .ok (.iload 6, 2) := dk_21 6 (dk_at dksX5_wordAt_2 2 rfl rfl)
theorem dX5_wordAt_51 : decode cX5_wordAt 51 = .ok (.getstatic 242, 3) := dk_178 0 242 (dk_at dksX5_wordAt_2 4 rfl rfl)
theorem dX5_wordAt_54 : decode cX5_wordAt 54 = .ok (.arraylength, 1) := dk_190 (dk_at dksX5_wordAt_2 7 rfl rfl)
theorem dX5_wordAt_55 : decode cX5_wordAt 55 = .ok (.if_icmp .ge 27, 3) := dk_162 0 27 (dk_at dksX5_wordAt_2 8 rfl rfl)
theorem dX5_wordAt_58 : decode cX5_wordAt 58 = .ok (.getstatic 242, 3) := dk_178 0 242 (dk_at dksX5_wordAt_2 11 rfl rfl)
theorem dX5_wordAt_61 : decode cX5_wordAt 61 = .ok (.iload 6, 2) := dk_21 6 (dk_at dksX5_wordAt_2 14 rfl rfl)
theorem dX5_wordAt_63 : decode cX5_wordAt 63 = .ok (.aaload, 1) := dk_50 (dk_at dksX5_wordAt_2 16 rfl rfl)
theorem dX5_wordAt_64 : decode cX5_wordAt 64 = .ok (.invokestatic 246, 3) := dk_184 0 246 (dk_at dksX5_wordAt_2 17 rfl rfl)
theorem dX5_wordAt_67 : decode cX5_wordAt 67 = .ok (.lload 4, 2) := dk_22 4 (dk_at dksX5_wordAt_2 20 rfl rfl)
theorem dX5_wordAt_69 : decode cX5_wordAt 69 = .ok (.lcmp, 1) := dk_148 (dk_at dksX5_wordAt_2 22 rfl rfl)
theorem dX5_wordAt_70 : decode cX5_wordAt 70 = .ok (.ifCond .ne 6, 3) := dk_154 0 6 (dk_at dksX5_wordAt_3 0 rfl rfl)
theorem dX5_wordAt_73 : decode cX5_wordAt 73 = .ok (.iload 6, 2) := dk_21 6 (dk_at dksX5_wordAt_3 3 rfl rfl)
theorem dX5_wordAt_75 : decode cX5_wordAt 75 = .ok (.ireturn, 1) := dk_172 (dk_at dksX5_wordAt_3 5 rfl rfl)
theorem dX5_wordAt_76 : decode cX5_wordAt 76 = .ok (.iinc 6 1, 3) := dk_132 6 1 (dk_at dksX5_wordAt_3 6 rfl rfl)
theorem dX5_wordAt_79 : decode cX5_wordAt 79 = .ok (.goto (-30), 3) := dk_167 255 226 (dk_at dksX5_wordAt_3 9 rfl rfl)
theorem dX5_wordAt_82 : decode cX5_wordAt 82 = .ok (.bipush 30, 2) := dk_16 30 (dk_at dksX5_wordAt_3 12 rfl rfl)
theorem dX5_wordAt_84 : decode cX5_wordAt 84 = .ok (.ireturn, 1) := dk_172 (dk_at dksX5_wordAt_3 14 rfl rfl)
abbrev mX5_wordAt : sd_Y := (yX5_wordAt, cX5_wordAt, 7, some (.int), none)
def fX5_wordAt_b49 (G : sd_G) (k49 : Int64 × Int32 → sd_M Int32) (w4 : Int64) (w6 : Int32) : sd_M Int32 :=
  sd_bnd (sd_alen G (sd_ad G 18)) fun v2 =>
  if v2 ≤ w6 then (
    sd_ret 30)
  else (
    sd_bnd (sd_aldR G 6 (sd_ad G 18) w6) fun v3 =>
    sd_bnd (fX5_nameOf G v3) fun r4 =>
    if (lg_cmp r4 w4) = 0 then (
      sd_ret w6)
    else (
      sd_bnd (sd_ret (w6 + 1)) fun x5 =>
      k49 (w4, x5)))
set_option maxHeartbeats 4000000 in
theorem sX5_wordAt_b49 (l : Launch) (G : sd_G) (a0 : Nat) (a1 : Int32) (a2 : Int32) (a3 : Int32) (ρ : Int32) (h2 : sd_H) (cT : Nat × Nat) (k49 : Int64 × Int32 → sd_M Int32) (Hk49 : ∀ (q : Int64 × Int32) (h : sd_H) (c : Nat × Nat), k49 q h = some (ρ, c, h2) → sd_J mX5_wordAt ((l, G), (5, 108), [.ref a0, .int a1, .int a2, .int a3], (sd_oI ρ, h2), cT) 49 [(4, .long q.1), (6, .int q.2)] [] h c) (w4 : Int64) (w6 : Int32) (h : sd_H) (c : Nat × Nat) (hf : fX5_wordAt_b49 G k49 w4 w6 h = some (ρ, c, h2)) : sd_J mX5_wordAt ((l, G), (5, 108), [.ref a0, .int a1, .int a2, .int a3], (sd_oI ρ, h2), cT) 49 [(4, .long w4), (6, .int w6)] [] h c := by
  unfold fX5_wordAt_b49 at hf
  refine sj_iload 1 dX5_wordAt_49 rfl ?_
  refine sj_gets (v := .ref (sd_ad G 18)) 34 rfl rfl ⟨Or.inl q2966, rfl⟩ dX5_wordAt_51 ?_
  refine sj_alen hf dX5_wordAt_54 (fun v2 hf => ?_)
  refine sj_icge 82 hf dX5_wordAt_55 (by decide) (fun g55 hf => ?_) (fun g55 hf => ?_)
  · refine sj_bipush (v := 30) dX5_wordAt_82 (by decide) ?_
    exact sj_iret (o := sd_oI) hf rfl rfl rfl dX5_wordAt_84
  · refine sj_gets (v := .ref (sd_ad G 18)) 34 rfl rfl ⟨Or.inl q2966, rfl⟩ dX5_wordAt_58 ?_
    refine sj_iload 1 dX5_wordAt_61 rfl ?_
    refine sj_aald rfl rfl hf dX5_wordAt_63 (fun v3 hf => ?_)
    refine sj_cL (rest := []) (fun _ _ _ e => sj_runS (n := 1) (rest := []) (sX5_nameOf l G v3 h _ _ _ e) rfl rfl q2968 q2969 q127 q2970 (by decide +kernel) rfl ⟨Nat.le_of_ble_eq_true rfl, Nat.le_of_ble_eq_true rfl⟩ rfl (Nat.le_of_ble_eq_true rfl) dX5_wordAt_64) hf (fun r4 h c hf => ?_)
    refine sj_lload 0 dX5_wordAt_67 rfl ?_
    refine sj_lcmp dX5_wordAt_69 ?_
    refine sj_ifne 76 hf dX5_wordAt_70 (by decide) (fun g70 hf => ?_) (fun g70 hf => ?_)
    · refine sj_iincN 1 (fun x5 => [(6, .int x5), (4, .long w4)]) 1 hf dX5_wordAt_76 rfl (by decide) (by decide) (fun _ => rfl) (fun x5 hf => ?_)
      refine sj_goto 49 dX5_wordAt_79 (by decide) ?_
      exact sj_loc [1, 0] rfl (Hk49 (w4, x5) _ _ hf)
    · refine sj_iload 1 dX5_wordAt_73 rfl ?_
      exact sj_iret (o := sd_oI) hf rfl rfl rfl dX5_wordAt_75
theorem sX5_wordAt_b49_loop (l : Launch) (G : sd_G) (a0 : Nat) (a1 : Int32) (a2 : Int32) (a3 : Int32) (ρ : Int32) (h2 : sd_H) (cT : Nat × Nat) (n : Nat) : ∀ (q : Int64 × Int32) (h : sd_H) (c : Nat × Nat), sd_loop (fun k s => fX5_wordAt_b49 G k s.1 s.2) n q h = some (ρ, c, h2) → sd_J mX5_wordAt ((l, G), (5, 108), [.ref a0, .int a1, .int a2, .int a3], (sd_oI ρ, h2), cT) 49 [(4, .long q.1), (6, .int q.2)] [] h c := by
  induction n with
  | zero => intro q h c hf; cases hf
  | succ n ih => intro q h c hf; exact sX5_wordAt_b49 l G a0 a1 a2 a3 ρ h2 cT _ ih _ _ _ _ hf
def fX5_wordAt_b6 (G : sd_G) (k6 : Nat × Int32 × Int32 × Int64 × Int32 → sd_M Int32) (w0 : Nat) (w1 : Int32) (w3 : Int32) (w4 : Int64) (w6 : Int32) : sd_M Int32 :=
  if w3 ≤ w6 then (
    sd_bnd (sd_getR G 4 8 w0) fun v1 =>
    sd_bnd (sd_astL v1 w1 w4) fun _ =>
    sd_loop (fun k s => fX5_wordAt_b49 G k s.1 s.2) sd_FU (w4, 0))
  else (
    sd_bnd (sd_getR G 4 1 w0) fun v6 =>
    sd_bnd (sd_aldI G 0 v6 w6) fun v7 =>
    sd_bnd (fX5_letter G v7) fun r8 =>
    sd_bnd (sd_ret (((37 : Int64) * w4) + (r8.toInt64))) fun x9 =>
    sd_bnd (sd_ret (w6 + 1)) fun x10 =>
    k6 (w0, w1, w3, x9, x10))
set_option maxHeartbeats 4000000 in
theorem sX5_wordAt_b6 (l : Launch) (G : sd_G) (a0 : Nat) (a1 : Int32) (a2 : Int32) (a3 : Int32) (ρ : Int32) (h2 : sd_H) (cT : Nat × Nat) (k6 : Nat × Int32 × Int32 × Int64 × Int32 → sd_M Int32) (Hk6 : ∀ (q : Nat × Int32 × Int32 × Int64 × Int32) (h : sd_H) (c : Nat × Nat), k6 q h = some (ρ, c, h2) → sd_J mX5_wordAt ((l, G), (5, 108), [.ref a0, .int a1, .int a2, .int a3], (sd_oI ρ, h2), cT) 6 [(0, .ref q.1), (1, .int q.2.1), (3, .int q.2.2.1), (4, .long q.2.2.2.1), (6, .int q.2.2.2.2)] [] h c) (w0 : Nat) (w1 : Int32) (w3 : Int32) (w4 : Int64) (w6 : Int32) (h : sd_H) (c : Nat × Nat) (hf : fX5_wordAt_b6 G k6 w0 w1 w3 w4 w6 h = some (ρ, c, h2)) : sd_J mX5_wordAt ((l, G), (5, 108), [.ref a0, .int a1, .int a2, .int a3], (sd_oI ρ, h2), cT) 6 [(0, .ref w0), (1, .int w1), (3, .int w3), (4, .long w4), (6, .int w6)] [] h c := by
  unfold fX5_wordAt_b6 at hf
  refine sj_iload 4 dX5_wordAt_6 rfl ?_
  refine sj_iload_n 2 dX5_wordAt_8 rfl ?_
  refine sj_icge 38 hf dX5_wordAt_9 (by decide) (fun g9 hf => ?_) (fun g9 hf => ?_)
  · refine sj_aload_n 0 dX5_wordAt_38 rfl ?_
    refine sj_getR fdX5_33_4 hf dX5_wordAt_39 (fun v1 hf => ?_)
    refine sj_iload_n 1 dX5_wordAt_42 rfl ?_
    refine sj_lload 3 dX5_wordAt_43 rfl ?_
    refine sj_last hf dX5_wordAt_45 (fun h hf => ?_)
    refine sj_iconst (v := 0) dX5_wordAt_46 (by decide) ?_
    refine sj_istore [(6, .int 0), (0, .ref w0), (1, .int w1), (3, .int w3), (4, .long w4)] dX5_wordAt_47 (by decide) rfl ?_
    exact sj_loc [4, 0] rfl (sX5_wordAt_b49_loop l G a0 a1 a2 a3 ρ h2 cT sd_FU (w4, 0) _ _ hf)
  · refine sj_ldc2 q2962 dX5_wordAt_12 ?_
    refine sj_lload 3 dX5_wordAt_15 rfl ?_
    refine sj_lmul dX5_wordAt_17 ?_
    refine sj_aload_n 0 dX5_wordAt_18 rfl ?_
    refine sj_getR fdX5_9_4 hf dX5_wordAt_19 (fun v6 hf => ?_)
    refine sj_iload 4 dX5_wordAt_22 rfl ?_
    refine sj_iald hf dX5_wordAt_24 (fun v7 hf => ?_)
    refine sj_cI (rest := [.long ((37 : Int64) * w4)]) (fun _ _ _ e => sj_runS (n := 1) (rest := [.long ((37 : Int64) * w4)]) (sX5_letter l G v7 h _ _ _ e) rfl rfl q2963 q2964 q127 q2965 (by decide +kernel) rfl ⟨Nat.le_of_ble_eq_true rfl, Nat.le_of_ble_eq_true rfl⟩ rfl (Nat.le_of_ble_eq_true rfl) dX5_wordAt_25) hf (fun r8 h c hf => ?_)
    refine sj_i2l dX5_wordAt_28 ?_
    refine sj_ladd dX5_wordAt_29 ?_
    refine sj_nameL hf (fun x9 hf => ?_)
    refine sj_lstore [(4, .long x9), (0, .ref w0), (1, .int w1), (3, .int w3), (6, .int w6)] dX5_wordAt_30 (by decide) rfl ?_
    refine sj_iincN 4 (fun x10 => [(6, .int x10), (4, .long x9), (0, .ref w0), (1, .int w1), (3, .int w3)]) 1 hf dX5_wordAt_32 rfl (by decide) (by decide) (fun _ => rfl) (fun x10 hf => ?_)
    refine sj_goto 6 dX5_wordAt_35 (by decide) ?_
    exact sj_loc [2, 3, 4, 1, 0] rfl (Hk6 (w0, w1, w3, x9, x10) _ _ hf)
theorem sX5_wordAt_b6_loop (l : Launch) (G : sd_G) (a0 : Nat) (a1 : Int32) (a2 : Int32) (a3 : Int32) (ρ : Int32) (h2 : sd_H) (cT : Nat × Nat) (n : Nat) : ∀ (q : Nat × Int32 × Int32 × Int64 × Int32) (h : sd_H) (c : Nat × Nat), sd_loop (fun k s => fX5_wordAt_b6 G k s.1 s.2.1 s.2.2.1 s.2.2.2.1 s.2.2.2.2) n q h = some (ρ, c, h2) → sd_J mX5_wordAt ((l, G), (5, 108), [.ref a0, .int a1, .int a2, .int a3], (sd_oI ρ, h2), cT) 6 [(0, .ref q.1), (1, .int q.2.1), (3, .int q.2.2.1), (4, .long q.2.2.2.1), (6, .int q.2.2.2.2)] [] h c := by
  induction n with
  | zero => intro q h c hf; cases hf
  | succ n ih => intro q h c hf; exact sX5_wordAt_b6 l G a0 a1 a2 a3 ρ h2 cT _ ih _ _ _ _ _ _ _ hf
def fX5_wordAt (G : sd_G) (a0 : Nat) (a1 : Int32) (a2 : Int32) (a3 : Int32) : sd_M Int32 :=
  sd_loop (fun k s => fX5_wordAt_b6 G k s.1 s.2.1 s.2.2.1 s.2.2.2.1 s.2.2.2.2) sd_FU (a0, a1, a3, 0, a2)
set_option maxHeartbeats 4000000 in
theorem sX5_wordAt (l : Launch) (G : sd_G) (a0 : Nat) (a1 : Int32) (a2 : Int32) (a3 : Int32) (h : sd_H) (ρ : Int32) (cT : Nat × Nat) (h2 : sd_H) (hf : fX5_wordAt G a0 a1 a2 a3 h = some (ρ, cT, h2)) : sd_Met mX5_wordAt ((l, G), (5, 108), [.ref a0, .int a1, .int a2, .int a3], (sd_oI ρ, h2), cT) h := by
  refine sd_entry (plainFor_of_name rfl) rfl (Nat.le_of_ble_eq_true rfl) ?_
  show sd_J mX5_wordAt ((l, G), (5, 108), [.ref a0, .int a1, .int a2, .int a3], (sd_oI ρ, h2), cT) 0 [(0, .ref a0), (1, .int a1), (2, .int a2), (3, .int a3)] [] h cT
  unfold fX5_wordAt at hf
  refine sj_lconst (v := 0) dX5_wordAt_0 (by decide) ?_
  refine sj_lstore [(4, .long 0), (0, .ref a0), (1, .int a1), (2, .int a2), (3, .int a3)] dX5_wordAt_1 (by decide) rfl ?_
  refine sj_iload_n 3 dX5_wordAt_3 rfl ?_
  refine sj_istore [(6, .int a2), (4, .long 0), (0, .ref a0), (1, .int a1), (2, .int a2), (3, .int a3)] dX5_wordAt_4 (by decide) rfl ?_
  exact sj_loc [2, 3, 5, 1, 0] rfl (sX5_wordAt_b6_loop l G a0 a1 a2 a3 ρ h2 cT sd_FU (a0, a1, a3, 0, a2) _ _ hf)
/-! SofaDigModel.kindOf(III)I -/
abbrev cX5_kindOf : ByteArray := prog_46_method_43_code
def yX5_kindOf : MethodName := ⟨RX5, "kindOf", "(III)I"⟩
def dkwX5_kindOf_8 : List UInt8 := [172]
abbrev dktX5_kindOf_8 : List UInt8 := dkwX5_kindOf_8 ++ []
def dkwX5_kindOf_7 : List UInt8 := [159, 0, 17, 21, 4, 16, 62, 159, 0, 10, 21, 4, 16, 61, 160, 0, 8, 21, 4, 167, 0, 5, 16, 32]
abbrev dktX5_kindOf_7 : List UInt8 := dkwX5_kindOf_7 ++ dktX5_kindOf_8
def dkwX5_kindOf_6 : List UInt8 := [16, 45, 159, 0, 38, 21, 4, 16, 42, 159, 0, 31, 21, 4, 16, 47, 159, 0, 24, 21, 4, 16, 60]
abbrev dktX5_kindOf_6 : List UInt8 := dkwX5_kindOf_6 ++ dktX5_kindOf_7
def dkwX5_kindOf_5 : List UInt8 := [21, 4, 16, 59, 159, 0, 59, 21, 4, 16, 44, 159, 0, 52, 21, 4, 16, 43, 159, 0, 45, 21, 4]
abbrev dktX5_kindOf_5 : List UInt8 := dkwX5_kindOf_5 ++ dktX5_kindOf_6
def dkwX5_kindOf_4 : List UInt8 := [159, 0, 87, 21, 4, 16, 41, 159, 0, 80, 21, 4, 16, 91, 159, 0, 73, 21, 4, 16, 93, 159, 0, 66]
abbrev dktX5_kindOf_4 : List UInt8 := dkwX5_kindOf_4 ++ dktX5_kindOf_5
def dkwX5_kindOf_3 : List UInt8 := [182, 0, 225, 172, 29, 28, 100, 5, 160, 0, 10, 17, 1, 0, 21, 4, 96, 172, 21, 4, 16, 40]
abbrev dktX5_kindOf_3 : List UInt8 := dkwX5_kindOf_3 ++ dktX5_kindOf_4
def dkwX5_kindOf_2 : List UInt8 := [184, 0, 216, 153, 0, 24, 29, 28, 100, 16, 10, 164, 0, 8, 16, 32, 167, 0, 10, 42, 27, 28, 29]
abbrev dktX5_kindOf_2 : List UInt8 := dkwX5_kindOf_2 ++ dktX5_kindOf_3
def dkwX5_kindOf_1 : List UInt8 := [29, 28, 100, 16, 6, 164, 0, 8, 16, 32, 167, 0, 10, 42, 27, 28, 29, 182, 0, 222, 172, 21, 4]
abbrev dktX5_kindOf_1 : List UInt8 := dkwX5_kindOf_1 ++ dktX5_kindOf_2
def dkwX5_kindOf_0 : List UInt8 := [42, 28, 182, 0, 213, 54, 4, 21, 4, 2, 160, 0, 6, 16, 33, 172, 21, 4, 184, 0, 219, 153, 0, 24]
abbrev dktX5_kindOf_0 : List UInt8 := dkwX5_kindOf_0 ++ dktX5_kindOf_1
theorem dksX5_kindOf_0 : cX5_kindOf.data.toList.drop 0 = dktX5_kindOf_0 := by decide +kernel
theorem dksX5_kindOf_1 : cX5_kindOf.data.toList.drop 24 = dktX5_kindOf_1 := dk_seg dksX5_kindOf_0 24 rfl rfl
theorem dksX5_kindOf_2 : cX5_kindOf.data.toList.drop 47 = dktX5_kindOf_2 := dk_seg dksX5_kindOf_1 23 rfl rfl
theorem dksX5_kindOf_3 : cX5_kindOf.data.toList.drop 70 = dktX5_kindOf_3 := dk_seg dksX5_kindOf_2 23 rfl rfl
theorem dksX5_kindOf_4 : cX5_kindOf.data.toList.drop 92 = dktX5_kindOf_4 := dk_seg dksX5_kindOf_3 22 rfl rfl
theorem dksX5_kindOf_5 : cX5_kindOf.data.toList.drop 116 = dktX5_kindOf_5 := dk_seg dksX5_kindOf_4 24 rfl rfl
theorem dksX5_kindOf_6 : cX5_kindOf.data.toList.drop 139 = dktX5_kindOf_6 := dk_seg dksX5_kindOf_5 23 rfl rfl
theorem dksX5_kindOf_7 : cX5_kindOf.data.toList.drop 162 = dktX5_kindOf_7 := dk_seg dksX5_kindOf_6 23 rfl rfl
theorem dksX5_kindOf_8 : cX5_kindOf.data.toList.drop 186 = dktX5_kindOf_8 := dk_seg dksX5_kindOf_7 24 rfl rfl
theorem dX5_kindOf_0 : decode cX5_kindOf 0 = .ok (.aload_n 0, 1) := dk_42 (dk_at dksX5_kindOf_0 0 rfl rfl)
theorem dX5_kindOf_1 : decode cX5_kindOf 1 = .ok (.iload_n 2, 1) := dk_28 (dk_at dksX5_kindOf_0 1 rfl rfl)
theorem dX5_kindOf_2 : decode cX5_kindOf 2 = .ok (.invokevirtual 213, 3) := dk_182 0 213 (dk_at dksX5_kindOf_0 2 rfl rfl)
theorem dX5_kindOf_5 : decode cX5_kindOf 5 = .ok (.istore 4, 2) := dk_54 4 (dk_at dksX5_kindOf_0 5 rfl rfl)
theorem dX5_kindOf_7 : decode cX5_kindOf 7 = .ok (.iload 4, 2) := dk_21 4 (dk_at dksX5_kindOf_0 7 rfl rfl)
theorem dX5_kindOf_9 : decode cX5_kindOf 9 = .ok (.iconst (-1), 1) := dk_2 (dk_at dksX5_kindOf_0 9 rfl rfl)
theorem dX5_kindOf_10 : decode cX5_kindOf 10 = .ok (.if_icmp .ne 6, 3) := dk_160 0 6 (dk_at dksX5_kindOf_0 10 rfl rfl)
theorem dX5_kindOf_13 : decode cX5_kindOf 13 = .ok (.bipush 33, 2) := dk_16 33 (dk_at dksX5_kindOf_0 13 rfl rfl)
theorem dX5_kindOf_15 : decode cX5_kindOf 15 = .ok (.ireturn, 1) := dk_172 (dk_at dksX5_kindOf_0 15 rfl rfl)
theorem dX5_kindOf_16 : decode cX5_kindOf 16 = .ok (.iload 4, 2) := dk_21 4 (dk_at dksX5_kindOf_0 16 rfl rfl)
theorem dX5_kindOf_18 : decode cX5_kindOf 18 = .ok (.invokestatic 219, 3) := dk_184 0 219 (dk_at dksX5_kindOf_0 18 rfl rfl)
theorem dX5_kindOf_21 : decode cX5_kindOf 21 = .ok (.ifCond .eq 24, 3) := dk_153 0 24 (dk_at dksX5_kindOf_0 21 rfl rfl)
theorem dX5_kindOf_24 : decode cX5_kindOf 24 = .ok (.iload_n 3, 1) := dk_29 (dk_at dksX5_kindOf_1 0 rfl rfl)
theorem dX5_kindOf_25 : decode cX5_kindOf 25 = .ok (.iload_n 2, 1) := dk_28 (dk_at dksX5_kindOf_1 1 rfl rfl)
theorem dX5_kindOf_26 : decode cX5_kindOf 26 = .ok (.isub, 1) := dk_100 (dk_at dksX5_kindOf_1 2 rfl rfl)
theorem dX5_kindOf_27 : decode cX5_kindOf 27 = .ok (.bipush 6, 2) := dk_16 6 (dk_at dksX5_kindOf_1 3 rfl rfl)
theorem dX5_kindOf_29 : decode cX5_kindOf 29 = .ok (.if_icmp .le 8, 3) := dk_164 0 8 (dk_at dksX5_kindOf_1 5 rfl rfl)
theorem dX5_kindOf_32 : decode cX5_kindOf 32 = .ok (.bipush 32, 2) := dk_16 32 (dk_at dksX5_kindOf_1 8 rfl rfl)
theorem dX5_kindOf_34 : decode cX5_kindOf 34 = .ok (.goto 10, 3) := dk_167 0 10 (dk_at dksX5_kindOf_1 10 rfl rfl)
theorem dX5_kindOf_37 : decode cX5_kindOf 37 = .ok (.aload_n 0, 1) := dk_42 (dk_at dksX5_kindOf_1 13 rfl rfl)
theorem dX5_kindOf_38 : decode cX5_kindOf 38 = .ok (.iload_n 1, 1) := dk_27 (dk_at dksX5_kindOf_1 14 rfl rfl)
theorem dX5_kindOf_39 : decode cX5_kindOf 39 = .ok (.iload_n 2, 1) := dk_28 (dk_at dksX5_kindOf_1 15 rfl rfl)
theorem dX5_kindOf_40 : decode cX5_kindOf 40 = .ok (.iload_n 3, 1) := dk_29 (dk_at dksX5_kindOf_1 16 rfl rfl)
theorem dX5_kindOf_41 : decode cX5_kindOf 41 = .ok (.invokevirtual 222, 3) := dk_182 0 222 (dk_at dksX5_kindOf_1 17 rfl rfl)
theorem dX5_kindOf_44 : decode cX5_kindOf 44 = .ok (.ireturn, 1) := dk_172 (dk_at dksX5_kindOf_1 20 rfl rfl)
theorem dX5_kindOf_45 : decode cX5_kindOf 45 = .ok (.iload 4, 2) := dk_21 4 (dk_at dksX5_kindOf_1 21 rfl rfl)
theorem dX5_kindOf_47 : decode cX5_kindOf 47 = .ok (.invokestatic 216, 3) := dk_184 0 216 (dk_at dksX5_kindOf_2 0 rfl rfl)
theorem dX5_kindOf_50 : decode cX5_kindOf 50 = .ok (.ifCond .eq 24, 3) := dk_153 0 24 (dk_at dksX5_kindOf_2 3 rfl rfl)
theorem dX5_kindOf_53 : decode cX5_kindOf 53 = .ok (.iload_n 3, 1) := dk_29 (dk_at dksX5_kindOf_2 6 rfl rfl)
theorem dX5_kindOf_54 : decode cX5_kindOf 54 = .ok (.iload_n 2, 1) := dk_28 (dk_at dksX5_kindOf_2 7 rfl rfl)
theorem dX5_kindOf_55 : decode cX5_kindOf 55 = .ok (.isub, 1) := dk_100 (dk_at dksX5_kindOf_2 8 rfl rfl)
theorem dX5_kindOf_56 : decode cX5_kindOf 56 = .ok (.bipush 10, 2) := dk_16 10 (dk_at dksX5_kindOf_2 9 rfl rfl)
theorem dX5_kindOf_58 : decode cX5_kindOf 58 = .ok (.if_icmp .le 8, 3) := dk_164 0 8 (dk_at dksX5_kindOf_2 11 rfl rfl)
theorem dX5_kindOf_61 : decode cX5_kindOf 61 = .ok (.bipush 32, 2) := dk_16 32 (dk_at dksX5_kindOf_2 14 rfl rfl)
theorem dX5_kindOf_63 : decode cX5_kindOf 63 = .ok (.goto 10, 3) := dk_167 0 10 (dk_at dksX5_kindOf_2 16 rfl rfl)
theorem dX5_kindOf_66 : decode cX5_kindOf 66 = .ok (.aload_n 0, 1) := dk_42 (dk_at dksX5_kindOf_2 19 rfl rfl)
theorem dX5_kindOf_67 : decode cX5_kindOf 67 = .ok (.iload_n 1, 1) := dk_27 (dk_at dksX5_kindOf_2 20 rfl rfl)
theorem dX5_kindOf_68 : decode cX5_kindOf 68 = .ok (.iload_n 2, 1) := dk_28 (dk_at dksX5_kindOf_2 21 rfl rfl)
theorem dX5_kindOf_69 : decode cX5_kindOf 69 = .ok (.iload_n 3, 1) := dk_29 (dk_at dksX5_kindOf_2 22 rfl rfl)
theorem dX5_kindOf_70 : decode cX5_kindOf 70 = .ok (.invokevirtual 225, 3) := dk_182 0 225 (dk_at dksX5_kindOf_3 0 rfl rfl)
theorem dX5_kindOf_73 : decode cX5_kindOf 73 = .ok (.ireturn, 1) := dk_172 (dk_at dksX5_kindOf_3 3 rfl rfl)
theorem dX5_kindOf_74 : decode cX5_kindOf 74 = .ok (.iload_n 3, 1) := dk_29 (dk_at dksX5_kindOf_3 4 rfl rfl)
theorem dX5_kindOf_75 : decode cX5_kindOf 75 = .ok (.iload_n 2, 1) := dk_28 (dk_at dksX5_kindOf_3 5 rfl rfl)
theorem dX5_kindOf_76 : decode cX5_kindOf 76 = .ok (.isub, 1) := dk_100 (dk_at dksX5_kindOf_3 6 rfl rfl)
theorem dX5_kindOf_77 : decode cX5_kindOf 77 = .ok (.iconst 2, 1) := dk_5 (dk_at dksX5_kindOf_3 7 rfl rfl)
theorem dX5_kindOf_78 : decode cX5_kindOf 78 = .ok (.if_icmp .ne 10, 3) := dk_160 0 10 (dk_at dksX5_kindOf_3 8 rfl rfl)
theorem dX5_kindOf_81 : decode cX5_kindOf 81 = .ok (.sipush 256, 3) := dk_17 1 0 (dk_at dksX5_kindOf_3 11 rfl rfl)
theorem dX5_kindOf_84 : decode cX5_kindOf 84 = .ok (.iload 4, 2) := dk_21 4 (dk_at dksX5_kindOf_3 14 rfl rfl)
theorem dX5_kindOf_86 : decode cX5_kindOf 86 = .ok (.iadd, 1) := dk_96 (dk_at dksX5_kindOf_3 16 rfl rfl)
theorem dX5_kindOf_87 : decode cX5_kindOf 87 = .ok (.ireturn, 1) := dk_172 (dk_at dksX5_kindOf_3 17 rfl rfl)
theorem dX5_kindOf_88 : decode cX5_kindOf 88 = .ok (.iload 4, 2) := dk_21 4 (dk_at dksX5_kindOf_3 18 rfl rfl)
theorem dX5_kindOf_90 : decode cX5_kindOf 90 = .ok (.bipush 40, 2) := dk_16 40 (dk_at dksX5_kindOf_3 20 rfl rfl)
theorem dX5_kindOf_92 : decode cX5_kindOf 92 = .ok (.if_icmp .eq 87, 3) := dk_159 0 87 (dk_at dksX5_kindOf_4 0 rfl rfl)
theorem dX5_kindOf_95 : decode cX5_kindOf 95 = .ok (.iload 4, 2) := dk_21 4 (dk_at dksX5_kindOf_4 3 rfl rfl)
theorem dX5_kindOf_97 : decode cX5_kindOf 97 = .ok (.bipush 41, 2) := dk_16 41 (dk_at dksX5_kindOf_4 5 rfl rfl)
theorem dX5_kindOf_99 : decode cX5_kindOf 99 = .ok (.if_icmp .eq 80, 3) := dk_159 0 80 (dk_at dksX5_kindOf_4 7 rfl rfl)
theorem dX5_kindOf_102 : decode cX5_kindOf 102 = .ok (.iload 4, 2) := dk_21 4 (dk_at dksX5_kindOf_4 10 rfl rfl)
theorem dX5_kindOf_104 : decode cX5_kindOf 104 = .ok (.bipush 91, 2) := dk_16 91 (dk_at dksX5_kindOf_4 12 rfl rfl)
theorem dX5_kindOf_106 : decode cX5_kindOf 106 = .ok (.if_icmp .eq 73, 3) := dk_159 0 73 (dk_at dksX5_kindOf_4 14 rfl rfl)
theorem dX5_kindOf_109 : decode cX5_kindOf 109 = .ok (.iload 4, 2) := dk_21 4 (dk_at dksX5_kindOf_4 17 rfl rfl)
theorem dX5_kindOf_111 : decode cX5_kindOf 111 = .ok (.bipush 93, 2) := dk_16 93 (dk_at dksX5_kindOf_4 19 rfl rfl)
theorem dX5_kindOf_113 : decode cX5_kindOf 113 = .ok (.if_icmp .eq 66, 3) := dk_159 0 66 (dk_at dksX5_kindOf_4 21 rfl rfl)
theorem dX5_kindOf_116 : decode cX5_kindOf 116 = .ok (.iload 4, 2) := dk_21 4 (dk_at dksX5_kindOf_5 0 rfl rfl)
theorem dX5_kindOf_118 : decode cX5_kindOf 118 = .ok (.bipush 59, 2) := dk_16 59 (dk_at dksX5_kindOf_5 2 rfl rfl)
theorem dX5_kindOf_120 : decode cX5_kindOf 120 = .ok (.if_icmp .eq 59, 3) := dk_159 0 59 (dk_at dksX5_kindOf_5 4 rfl rfl)
theorem dX5_kindOf_123 : decode cX5_kindOf 123 = .ok (.iload 4, 2) := dk_21 4 (dk_at dksX5_kindOf_5 7 rfl rfl)
theorem dX5_kindOf_125 : decode cX5_kindOf 125 = .ok (.bipush 44, 2) := dk_16 44 (dk_at dksX5_kindOf_5 9 rfl rfl)
theorem dX5_kindOf_127 : decode cX5_kindOf 127 = .ok (.if_icmp .eq 52, 3) := dk_159 0 52 (dk_at dksX5_kindOf_5 11 rfl rfl)
theorem dX5_kindOf_130 : decode cX5_kindOf 130 = .ok (.iload 4, 2) := dk_21 4 (dk_at dksX5_kindOf_5 14 rfl rfl)
theorem dX5_kindOf_132 : decode cX5_kindOf 132 = .ok (.bipush 43, 2) := dk_16 43 (dk_at dksX5_kindOf_5 16 rfl rfl)
theorem dX5_kindOf_134 : decode cX5_kindOf 134 = .ok (.if_icmp .eq 45, 3) := dk_159 0 45 (dk_at dksX5_kindOf_5 18 rfl rfl)
theorem dX5_kindOf_137 : decode cX5_kindOf 137 = .ok (.iload 4, 2) := dk_21 4 (dk_at dksX5_kindOf_5 21 rfl rfl)
theorem dX5_kindOf_139 : decode cX5_kindOf 139 = .ok (.bipush 45, 2) := dk_16 45 (dk_at dksX5_kindOf_6 0 rfl rfl)
theorem dX5_kindOf_141 : decode cX5_kindOf 141 = .ok (.if_icmp .eq 38, 3) := dk_159 0 38 (dk_at dksX5_kindOf_6 2 rfl rfl)
theorem dX5_kindOf_144 : decode cX5_kindOf 144 = .ok (.iload 4, 2) := dk_21 4 (dk_at dksX5_kindOf_6 5 rfl rfl)
theorem dX5_kindOf_146 : decode cX5_kindOf 146 = .ok (.bipush 42, 2) := dk_16 42 (dk_at dksX5_kindOf_6 7 rfl rfl)
theorem dX5_kindOf_148 : decode cX5_kindOf 148 = .ok (.if_icmp .eq 31, 3) := dk_159 0 31 (dk_at dksX5_kindOf_6 9 rfl rfl)
theorem dX5_kindOf_151 : decode cX5_kindOf 151 = .ok (.iload 4, 2) := dk_21 4 (dk_at dksX5_kindOf_6 12 rfl rfl)
theorem dX5_kindOf_153 : decode cX5_kindOf 153 = .ok (.bipush 47, 2) := dk_16 47 (dk_at dksX5_kindOf_6 14 rfl rfl)
theorem dX5_kindOf_155 : decode cX5_kindOf 155 = .ok (.if_icmp .eq 24, 3) := dk_159 0 24 (dk_at dksX5_kindOf_6 16 rfl rfl)
theorem dX5_kindOf_158 : decode cX5_kindOf 158 = .ok (.iload 4, 2) := dk_21 4 (dk_at dksX5_kindOf_6 19 rfl rfl)
theorem dX5_kindOf_160 : decode cX5_kindOf 160 = .ok (.bipush 60, 2) := dk_16 60 (dk_at dksX5_kindOf_6 21 rfl rfl)
theorem dX5_kindOf_162 : decode cX5_kindOf 162 = .ok (.if_icmp .eq 17, 3) := dk_159 0 17 (dk_at dksX5_kindOf_7 0 rfl rfl)
theorem dX5_kindOf_165 : decode cX5_kindOf 165 = .ok (.iload 4, 2) := dk_21 4 (dk_at dksX5_kindOf_7 3 rfl rfl)
theorem dX5_kindOf_167 : decode cX5_kindOf 167 = .ok (.bipush 62, 2) := dk_16 62 (dk_at dksX5_kindOf_7 5 rfl rfl)
theorem dX5_kindOf_169 : decode cX5_kindOf 169 = .ok (.if_icmp .eq 10, 3) := dk_159 0 10 (dk_at dksX5_kindOf_7 7 rfl rfl)
theorem dX5_kindOf_172 : decode cX5_kindOf 172 = .ok (.iload 4, 2) := dk_21 4 (dk_at dksX5_kindOf_7 10 rfl rfl)
theorem dX5_kindOf_174 : decode cX5_kindOf 174 = .ok (.bipush 61, 2) := dk_16 61 (dk_at dksX5_kindOf_7 12 rfl rfl)
theorem dX5_kindOf_176 : decode cX5_kindOf 176 = .ok (.if_icmp .ne 8, 3) := dk_160 0 8 (dk_at dksX5_kindOf_7 14 rfl rfl)
theorem dX5_kindOf_179 : decode cX5_kindOf 179 = .ok (.iload 4, 2) := dk_21 4 (dk_at dksX5_kindOf_7 17 rfl rfl)
theorem dX5_kindOf_181 : decode cX5_kindOf 181 = .ok (.goto 5, 3) := dk_167 0 5 (dk_at dksX5_kindOf_7 19 rfl rfl)
theorem dX5_kindOf_184 : decode cX5_kindOf 184 = .ok (.bipush 32, 2) := dk_16 32 (dk_at dksX5_kindOf_7 22 rfl rfl)
theorem dX5_kindOf_186 : decode cX5_kindOf 186 = .ok (.ireturn, 1) := dk_172 (dk_at dksX5_kindOf_8 0 rfl rfl)
abbrev mX5_kindOf : sd_Y := (yX5_kindOf, cX5_kindOf, 5, some (.int), none)
def fX5_kindOf (G : sd_G) (a0 : Nat) (a1 : Int32) (a2 : Int32) (a3 : Int32) : sd_M Int32 :=
  sd_bnd (sd_isC G 4 a0) fun _ =>
  sd_bnd (fX5_byteOf G a0 a2) fun r1 =>
  if r1 = (-1) then (
    sd_ret 33)
  else (
    sd_bnd (fX5_isDigit G r1) fun r2 =>
    if r2 = 0 then (
      sd_bnd (fX5_isSmall G r1) fun r3 =>
      if r3 = 0 then (
        if (a3 - a2) = 2 then (
          sd_ret ((256 : Int32) + r1))
        else (
          if r1 = 40 then (
            sd_ret r1)
          else (
            if r1 = 41 then (
              sd_ret r1)
            else (
              if r1 = 91 then (
                sd_ret r1)
              else (
                if r1 = 93 then (
                  sd_ret r1)
                else (
                  if r1 = 59 then (
                    sd_ret r1)
                  else (
                    if r1 = 44 then (
                      sd_ret r1)
                    else (
                      if r1 = 43 then (
                        sd_ret r1)
                      else (
                        if r1 = 45 then (
                          sd_ret r1)
                        else (
                          if r1 = 42 then (
                            sd_ret r1)
                          else (
                            if r1 = 47 then (
                              sd_ret r1)
                            else (
                              if r1 = 60 then (
                                sd_ret r1)
                              else (
                                if r1 = 62 then (
                                  sd_ret r1)
                                else (
                                  if r1 = 61 then (
                                    sd_ret r1)
                                  else (
                                    sd_ret 32)))))))))))))))
      else (
        if (a3 - a2) ≤ 10 then (
          sd_bnd (sd_isC G 4 a0) fun _ =>
          sd_bnd (fX5_wordAt G a0 a1 a2 a3) fun r4 =>
          sd_ret r4)
        else (
          sd_ret 32)))
    else (
      if (a3 - a2) ≤ 6 then (
        sd_bnd (sd_isC G 4 a0) fun _ =>
        sd_bnd (fX5_numberAt G a0 a1 a2 a3) fun r5 =>
        sd_ret r5)
      else (
        sd_ret 32)))
set_option maxHeartbeats 4000000 in
theorem sX5_kindOf (l : Launch) (G : sd_G) (a0 : Nat) (a1 : Int32) (a2 : Int32) (a3 : Int32) (h : sd_H) (ρ : Int32) (cT : Nat × Nat) (h2 : sd_H) (hf : fX5_kindOf G a0 a1 a2 a3 h = some (ρ, cT, h2)) : sd_Met mX5_kindOf ((l, G), (6, 134), [.ref a0, .int a1, .int a2, .int a3], (sd_oI ρ, h2), cT) h := by
  refine sd_entry (plainFor_of_name rfl) rfl (Nat.le_of_ble_eq_true rfl) ?_
  show sd_J mX5_kindOf ((l, G), (6, 134), [.ref a0, .int a1, .int a2, .int a3], (sd_oI ρ, h2), cT) 0 [(0, .ref a0), (1, .int a1), (2, .int a2), (3, .int a3)] [] h cT
  unfold fX5_kindOf at hf
  refine sj_aload_n 0 dX5_kindOf_0 rfl ?_
  refine sj_iload_n 2 dX5_kindOf_1 rfl ?_
  obtain ⟨fs2, he2, hf⟩ := sd_isC_some hf
  refine sj_cI (rest := []) (fun _ _ _ e => sj_runV (n := 1) (As := [.int a2]) (rest := []) (sX5_byteOf l G a0 a2 h _ _ _ e) he2 rfl rfl rfl rfl q2936 q2938 qs45 q127 q2939 (by decide +kernel) rfl rfl ⟨Nat.le_of_ble_eq_true rfl, Nat.le_of_ble_eq_true rfl⟩ rfl (Nat.le_of_ble_eq_true rfl) dX5_kindOf_2) hf (fun r1 h c hf => ?_)
  refine sj_istore [(4, .int r1), (0, .ref a0), (1, .int a1), (2, .int a2), (3, .int a3)] dX5_kindOf_5 (by decide) rfl ?_
  refine sj_iload 0 dX5_kindOf_7 rfl ?_
  refine sj_iconst (v := (-1)) dX5_kindOf_9 (by decide) ?_
  refine sj_icne 16 hf dX5_kindOf_10 (by decide) (fun g10 hf => ?_) (fun g10 hf => ?_)
  · refine sj_iload 0 dX5_kindOf_16 rfl ?_
    refine sj_cI (rest := []) (fun _ _ _ e => sj_runS (n := 1) (rest := []) (sX5_isDigit l G r1 h _ _ _ e) rfl rfl q2947 q2948 q127 q2949 (by decide +kernel) rfl ⟨Nat.le_of_ble_eq_true rfl, Nat.le_of_ble_eq_true rfl⟩ rfl (Nat.le_of_ble_eq_true rfl) dX5_kindOf_18) hf (fun r2 h c hf => ?_)
    refine sj_ifeq 45 hf dX5_kindOf_21 (by decide) (fun g21 hf => ?_) (fun g21 hf => ?_)
    · refine sj_iload 0 dX5_kindOf_45 rfl ?_
      refine sj_cI (rest := []) (fun _ _ _ e => sj_runS (n := 1) (rest := []) (sX5_isSmall l G r1 h _ _ _ e) rfl rfl q2944 q2945 q127 q2946 (by decide +kernel) rfl ⟨Nat.le_of_ble_eq_true rfl, Nat.le_of_ble_eq_true rfl⟩ rfl (Nat.le_of_ble_eq_true rfl) dX5_kindOf_47) hf (fun r3 h c hf => ?_)
      refine sj_ifeq 74 hf dX5_kindOf_50 (by decide) (fun g50 hf => ?_) (fun g50 hf => ?_)
      · refine sj_iload_n 4 dX5_kindOf_74 rfl ?_
        refine sj_iload_n 3 dX5_kindOf_75 rfl ?_
        refine sj_isub dX5_kindOf_76 ?_
        refine sj_iconst (v := 2) dX5_kindOf_77 (by decide) ?_
        refine sj_icne 88 hf dX5_kindOf_78 (by decide) (fun g78 hf => ?_) (fun g78 hf => ?_)
        · refine sj_iload 0 dX5_kindOf_88 rfl ?_
          refine sj_bipush (v := 40) dX5_kindOf_90 (by decide) ?_
          refine sj_iceq 179 hf dX5_kindOf_92 (by decide) (fun g92 hf => ?_) (fun g92 hf => ?_)
          · refine sj_iload 0 dX5_kindOf_179 rfl ?_
            refine sj_goto 186 dX5_kindOf_181 (by decide) ?_
            exact sj_iret (o := sd_oI) hf rfl rfl rfl dX5_kindOf_186
          · refine sj_iload 0 dX5_kindOf_95 rfl ?_
            refine sj_bipush (v := 41) dX5_kindOf_97 (by decide) ?_
            refine sj_iceq 179 hf dX5_kindOf_99 (by decide) (fun g99 hf => ?_) (fun g99 hf => ?_)
            · refine sj_iload 0 dX5_kindOf_179 rfl ?_
              refine sj_goto 186 dX5_kindOf_181 (by decide) ?_
              exact sj_iret (o := sd_oI) hf rfl rfl rfl dX5_kindOf_186
            · refine sj_iload 0 dX5_kindOf_102 rfl ?_
              refine sj_bipush (v := 91) dX5_kindOf_104 (by decide) ?_
              refine sj_iceq 179 hf dX5_kindOf_106 (by decide) (fun g106 hf => ?_) (fun g106 hf => ?_)
              · refine sj_iload 0 dX5_kindOf_179 rfl ?_
                refine sj_goto 186 dX5_kindOf_181 (by decide) ?_
                exact sj_iret (o := sd_oI) hf rfl rfl rfl dX5_kindOf_186
              · refine sj_iload 0 dX5_kindOf_109 rfl ?_
                refine sj_bipush (v := 93) dX5_kindOf_111 (by decide) ?_
                refine sj_iceq 179 hf dX5_kindOf_113 (by decide) (fun g113 hf => ?_) (fun g113 hf => ?_)
                · refine sj_iload 0 dX5_kindOf_179 rfl ?_
                  refine sj_goto 186 dX5_kindOf_181 (by decide) ?_
                  exact sj_iret (o := sd_oI) hf rfl rfl rfl dX5_kindOf_186
                · refine sj_iload 0 dX5_kindOf_116 rfl ?_
                  refine sj_bipush (v := 59) dX5_kindOf_118 (by decide) ?_
                  refine sj_iceq 179 hf dX5_kindOf_120 (by decide) (fun g120 hf => ?_) (fun g120 hf => ?_)
                  · refine sj_iload 0 dX5_kindOf_179 rfl ?_
                    refine sj_goto 186 dX5_kindOf_181 (by decide) ?_
                    exact sj_iret (o := sd_oI) hf rfl rfl rfl dX5_kindOf_186
                  · refine sj_iload 0 dX5_kindOf_123 rfl ?_
                    refine sj_bipush (v := 44) dX5_kindOf_125 (by decide) ?_
                    refine sj_iceq 179 hf dX5_kindOf_127 (by decide) (fun g127 hf => ?_) (fun g127 hf => ?_)
                    · refine sj_iload 0 dX5_kindOf_179 rfl ?_
                      refine sj_goto 186 dX5_kindOf_181 (by decide) ?_
                      exact sj_iret (o := sd_oI) hf rfl rfl rfl dX5_kindOf_186
                    · refine sj_iload 0 dX5_kindOf_130 rfl ?_
                      refine sj_bipush (v := 43) dX5_kindOf_132 (by decide) ?_
                      refine sj_iceq 179 hf dX5_kindOf_134 (by decide) (fun g134 hf => ?_) (fun g134 hf => ?_)
                      · refine sj_iload 0 dX5_kindOf_179 rfl ?_
                        refine sj_goto 186 dX5_kindOf_181 (by decide) ?_
                        exact sj_iret (o := sd_oI) hf rfl rfl rfl dX5_kindOf_186
                      · refine sj_iload 0 dX5_kindOf_137 rfl ?_
                        refine sj_bipush (v := 45) dX5_kindOf_139 (by decide) ?_
                        refine sj_iceq 179 hf dX5_kindOf_141 (by decide) (fun g141 hf => ?_) (fun g141 hf => ?_)
                        · refine sj_iload 0 dX5_kindOf_179 rfl ?_
                          refine sj_goto 186 dX5_kindOf_181 (by decide) ?_
                          exact sj_iret (o := sd_oI) hf rfl rfl rfl dX5_kindOf_186
                        · refine sj_iload 0 dX5_kindOf_144 rfl ?_
                          refine sj_bipush (v := 42) dX5_kindOf_146 (by decide) ?_
                          refine sj_iceq 179 hf dX5_kindOf_148 (by decide) (fun g148 hf => ?_) (fun g148 hf => ?_)
                          · refine sj_iload 0 dX5_kindOf_179 rfl ?_
                            refine sj_goto 186 dX5_kindOf_181 (by decide) ?_
                            exact sj_iret (o := sd_oI) hf rfl rfl rfl dX5_kindOf_186
                          · refine sj_iload 0 dX5_kindOf_151 rfl ?_
                            refine sj_bipush (v := 47) dX5_kindOf_153 (by decide) ?_
                            refine sj_iceq 179 hf dX5_kindOf_155 (by decide) (fun g155 hf => ?_) (fun g155 hf => ?_)
                            · refine sj_iload 0 dX5_kindOf_179 rfl ?_
                              refine sj_goto 186 dX5_kindOf_181 (by decide) ?_
                              exact sj_iret (o := sd_oI) hf rfl rfl rfl dX5_kindOf_186
                            · refine sj_iload 0 dX5_kindOf_158 rfl ?_
                              refine sj_bipush (v := 60) dX5_kindOf_160 (by decide) ?_
                              refine sj_iceq 179 hf dX5_kindOf_162 (by decide) (fun g162 hf => ?_) (fun g162 hf => ?_)
                              · refine sj_iload 0 dX5_kindOf_179 rfl ?_
                                refine sj_goto 186 dX5_kindOf_181 (by decide) ?_
                                exact sj_iret (o := sd_oI) hf rfl rfl rfl dX5_kindOf_186
                              · refine sj_iload 0 dX5_kindOf_165 rfl ?_
                                refine sj_bipush (v := 62) dX5_kindOf_167 (by decide) ?_
                                refine sj_iceq 179 hf dX5_kindOf_169 (by decide) (fun g169 hf => ?_) (fun g169 hf => ?_)
                                · refine sj_iload 0 dX5_kindOf_179 rfl ?_
                                  refine sj_goto 186 dX5_kindOf_181 (by decide) ?_
                                  exact sj_iret (o := sd_oI) hf rfl rfl rfl dX5_kindOf_186
                                · refine sj_iload 0 dX5_kindOf_172 rfl ?_
                                  refine sj_bipush (v := 61) dX5_kindOf_174 (by decide) ?_
                                  refine sj_icne 184 hf dX5_kindOf_176 (by decide) (fun g176 hf => ?_) (fun g176 hf => ?_)
                                  · refine sj_bipush (v := 32) dX5_kindOf_184 (by decide) ?_
                                    exact sj_iret (o := sd_oI) hf rfl rfl rfl dX5_kindOf_186
                                  · refine sj_iload 0 dX5_kindOf_179 rfl ?_
                                    refine sj_goto 186 dX5_kindOf_181 (by decide) ?_
                                    exact sj_iret (o := sd_oI) hf rfl rfl rfl dX5_kindOf_186
        · refine sj_sipush (v := 256) dX5_kindOf_81 (by decide) ?_
          refine sj_iload 0 dX5_kindOf_84 rfl ?_
          refine sj_iadd dX5_kindOf_86 ?_
          exact sj_iret (o := sd_oI) hf rfl rfl rfl dX5_kindOf_87
      · refine sj_iload_n 4 dX5_kindOf_53 rfl ?_
        refine sj_iload_n 3 dX5_kindOf_54 rfl ?_
        refine sj_isub dX5_kindOf_55 ?_
        refine sj_bipush (v := 10) dX5_kindOf_56 (by decide) ?_
        refine sj_icle 66 hf dX5_kindOf_58 (by decide) (fun g58 hf => ?_) (fun g58 hf => ?_)
        · refine sj_aload_n 1 dX5_kindOf_66 rfl ?_
          refine sj_iload_n 2 dX5_kindOf_67 rfl ?_
          refine sj_iload_n 3 dX5_kindOf_68 rfl ?_
          refine sj_iload_n 4 dX5_kindOf_69 rfl ?_
          obtain ⟨fs70, he70, hf⟩ := sd_isC_some hf
          refine sj_cI (rest := []) (fun _ _ _ e => sj_runV (n := 3) (As := [.int a1, .int a2, .int a3]) (rest := []) (sX5_wordAt l G a0 a1 a2 a3 h _ _ _ e) he70 rfl rfl rfl rfl q2958 q2960 qs49 q127 q2961 (by decide +kernel) rfl rfl ⟨Nat.le_of_ble_eq_true rfl, Nat.le_of_ble_eq_true rfl⟩ rfl (Nat.le_of_ble_eq_true rfl) dX5_kindOf_70) hf (fun r4 h c hf => ?_)
          exact sj_iret (o := sd_oI) hf rfl rfl rfl dX5_kindOf_73
        · refine sj_bipush (v := 32) dX5_kindOf_61 (by decide) ?_
          refine sj_goto 73 dX5_kindOf_63 (by decide) ?_
          exact sj_iret (o := sd_oI) hf rfl rfl rfl dX5_kindOf_73
    · refine sj_iload_n 4 dX5_kindOf_24 rfl ?_
      refine sj_iload_n 3 dX5_kindOf_25 rfl ?_
      refine sj_isub dX5_kindOf_26 ?_
      refine sj_bipush (v := 6) dX5_kindOf_27 (by decide) ?_
      refine sj_icle 37 hf dX5_kindOf_29 (by decide) (fun g29 hf => ?_) (fun g29 hf => ?_)
      · refine sj_aload_n 1 dX5_kindOf_37 rfl ?_
        refine sj_iload_n 2 dX5_kindOf_38 rfl ?_
        refine sj_iload_n 3 dX5_kindOf_39 rfl ?_
        refine sj_iload_n 4 dX5_kindOf_40 rfl ?_
        obtain ⟨fs41, he41, hf⟩ := sd_isC_some hf
        refine sj_cI (rest := []) (fun _ _ _ e => sj_runV (n := 3) (As := [.int a1, .int a2, .int a3]) (rest := []) (sX5_numberAt l G a0 a1 a2 a3 h _ _ _ e) he41 rfl rfl rfl rfl q2954 q2956 qs48 q127 q2957 (by decide +kernel) rfl rfl ⟨Nat.le_of_ble_eq_true rfl, Nat.le_of_ble_eq_true rfl⟩ rfl (Nat.le_of_ble_eq_true rfl) dX5_kindOf_41) hf (fun r5 h c hf => ?_)
        exact sj_iret (o := sd_oI) hf rfl rfl rfl dX5_kindOf_44
      · refine sj_bipush (v := 32) dX5_kindOf_32 (by decide) ?_
        refine sj_goto 44 dX5_kindOf_34 (by decide) ?_
        exact sj_iret (o := sd_oI) hf rfl rfl rfl dX5_kindOf_44
  · refine sj_bipush (v := 33) dX5_kindOf_13 (by decide) ?_
    exact sj_iret (o := sd_oI) hf rfl rfl rfl dX5_kindOf_15
/-! SofaDigModel.cutIntoTokens()V -/
abbrev cX5_cutIntoTokens : ByteArray := prog_46_method_48_code
def yX5_cutIntoTokens : MethodName := ⟨RX5, "cutIntoTokens", "()V"⟩
def dkwX5_cutIntoTokens_5 : List UInt8 := [29, 60, 132, 2, 1, 167, 255, 136, 177]
abbrev dktX5_cutIntoTokens_5 : List UInt8 := dkwX5_cutIntoTokens_5 ++ []
def dkwX5_cutIntoTokens_4 : List UInt8 := [79, 42, 180, 0, 24, 28, 46, 16, 32, 159, 0, 14, 42, 180, 0, 24, 28, 46, 16, 33, 160, 0, 4, 177]
abbrev dktX5_cutIntoTokens_4 : List UInt8 := dkwX5_cutIntoTokens_4 ++ dktX5_cutIntoTokens_5
def dkwX5_cutIntoTokens_3 : List UInt8 := [17, 1, 144, 160, 0, 22, 42, 180, 0, 24, 28, 46, 16, 33, 159, 0, 11, 42, 180, 0, 24, 28, 16, 32]
abbrev dktX5_cutIntoTokens_3 : List UInt8 := dkwX5_cutIntoTokens_3 ++ dktX5_cutIntoTokens_4
def dkwX5_cutIntoTokens_2 : List UInt8 := [28, 27, 79, 42, 180, 0, 30, 28, 3, 79, 42, 180, 0, 24, 28, 42, 28, 27, 29, 182, 0, 253, 79, 28]
abbrev dktX5_cutIntoTokens_2 : List UInt8 := dkwX5_cutIntoTokens_2 ++ dktX5_cutIntoTokens_3
def dkwX5_cutIntoTokens_1 : List UInt8 := [182, 0, 213, 16, 10, 160, 0, 9, 132, 1, 1, 167, 255, 233, 42, 27, 182, 0, 250, 62, 42, 180, 0, 27]
abbrev dktX5_cutIntoTokens_1 : List UInt8 := dkwX5_cutIntoTokens_1 ++ dktX5_cutIntoTokens_2
def dkwX5_cutIntoTokens_0 : List UInt8 := [3, 60, 3, 61, 28, 17, 1, 144, 163, 0, 119, 42, 27, 182, 0, 213, 16, 32, 159, 0, 13, 42, 27]
abbrev dktX5_cutIntoTokens_0 : List UInt8 := dkwX5_cutIntoTokens_0 ++ dktX5_cutIntoTokens_1
theorem dksX5_cutIntoTokens_0 : cX5_cutIntoTokens.data.toList.drop 0 = dktX5_cutIntoTokens_0 := by decide +kernel
theorem dksX5_cutIntoTokens_1 : cX5_cutIntoTokens.data.toList.drop 23 = dktX5_cutIntoTokens_1 := dk_seg dksX5_cutIntoTokens_0 23 rfl rfl
theorem dksX5_cutIntoTokens_2 : cX5_cutIntoTokens.data.toList.drop 47 = dktX5_cutIntoTokens_2 := dk_seg dksX5_cutIntoTokens_1 24 rfl rfl
theorem dksX5_cutIntoTokens_3 : cX5_cutIntoTokens.data.toList.drop 71 = dktX5_cutIntoTokens_3 := dk_seg dksX5_cutIntoTokens_2 24 rfl rfl
theorem dksX5_cutIntoTokens_4 : cX5_cutIntoTokens.data.toList.drop 95 = dktX5_cutIntoTokens_4 := dk_seg dksX5_cutIntoTokens_3 24 rfl rfl
theorem dksX5_cutIntoTokens_5 : cX5_cutIntoTokens.data.toList.drop 119 = dktX5_cutIntoTokens_5 := dk_seg dksX5_cutIntoTokens_4 24 rfl rfl
theorem dX5_cutIntoTokens_0 : decode cX5_cutIntoTokens 0 = .ok (.iconst 0, 1) := dk_3 (dk_at dksX5_cutIntoTokens_0 0 rfl rfl)
theorem dX5_cutIntoTokens_1 : decode cX5_cutIntoTokens 1 = .ok (.istore_n 1, 1) := dk_60 (dk_at dksX5_cutIntoTokens_0 1 rfl rfl)
theorem dX5_cutIntoTokens_2 : decode cX5_cutIntoTokens 2 = .ok (.iconst 0, 1) := dk_3 (dk_at dksX5_cutIntoTokens_0 2 rfl rfl)
theorem dX5_cutIntoTokens_3 : decode cX5_cutIntoTokens 3 = .ok (.istore_n 2, 1) := dk_61 (dk_at dksX5_cutIntoTokens_0 3 rfl rfl)
theorem dX5_cutIntoTokens_4 : decode cX5_cutIntoTokens 4 = .ok (.iload_n 2, 1) := dk_28 (dk_at dksX5_cutIntoTokens_0 4 rfl rfl)
theorem dX5_cutIntoTokens_5 : decode cX5_cutIntoTokens 5 = .ok (.sipush 400, 3) := dk_17 1 144 (dk_at dksX5_cutIntoTokens_0 5 rfl rfl)
theorem dX5_cutIntoTokens_8 : decode cX5_cutIntoTokens 8 = .ok (.if_icmp .gt 119, 3) := dk_163 0 119 (dk_at dksX5_cutIntoTokens_0 8 rfl rfl)
theorem dX5_cutIntoTokens_11 : decode cX5_cutIntoTokens 11 = .ok (.aload_n 0, 1) := dk_42 (dk_at dksX5_cutIntoTokens_0 11 rfl rfl)
theorem dX5_cutIntoTokens_12 : decode cX5_cutIntoTokens 12 = .ok (.iload_n 1, 1) := dk_27 (dk_at dksX5_cutIntoTokens_0 12 rfl rfl)
theorem dX5_cutIntoTokens_13 : decode cX5_cutIntoTokens 13 = .ok (.invokevirtual 213, 3) := dk_182 0 213 (dk_at dksX5_cutIntoTokens_0 13 rfl rfl)
theorem dX5_cutIntoTokens_16 : decode cX5_cutIntoTokens 16 = .ok (.bipush 32, 2) := dk_16 32 (dk_at dksX5_cutIntoTokens_0 16 rfl rfl)
theorem dX5_cutIntoTokens_18 : decode cX5_cutIntoTokens 18 = .ok (.if_icmp .eq 13, 3) := dk_159 0 13 (dk_at dksX5_cutIntoTokens_0 18 rfl rfl)
theorem dX5_cutIntoTokens_21 : decode cX5_cutIntoTokens 21 = .ok (.aload_n 0, 1) := dk_42 (dk_at dksX5_cutIntoTokens_0 21 rfl rfl)
theorem dX5_cutIntoTokens_22 : decode cX5_cutIntoTokens 22 = .ok (.iload_n 1, 1) := dk_27 (dk_at dksX5_cutIntoTokens_0 22 rfl rfl)
theorem dX5_cutIntoTokens_23 : decode cX5_cutIntoTokens 23 = .ok (.invokevirtual 213, 3) := dk_182 0 213 (dk_at dksX5_cutIntoTokens_1 0 rfl rfl)
theorem dX5_cutIntoTokens_26 : decode cX5_cutIntoTokens 26 = .ok (.bipush 10, 2) := dk_16 10 (dk_at dksX5_cutIntoTokens_1 3 rfl rfl)
theorem dX5_cutIntoTokens_28 : decode cX5_cutIntoTokens 28 = .ok (.if_icmp .ne 9, 3) := dk_160 0 9 (dk_at dksX5_cutIntoTokens_1 5 rfl rfl)
theorem dX5_cutIntoTokens_31 : decode cX5_cutIntoTokens 31 = .ok (.iinc 1 1, 3) := dk_132 1 1 (dk_at dksX5_cutIntoTokens_1 8 rfl rfl)
theorem dX5_cutIntoTokens_34 : decode cX5_cutIntoTokens 34 = .ok (.goto (-23), 3) := dk_167 255 233 (dk_at dksX5_cutIntoTokens_1 11 rfl rfl)
theorem dX5_cutIntoTokens_37 : decode cX5_cutIntoTokens 37 = .ok (.aload_n 0, 1) := dk_42 (dk_at dksX5_cutIntoTokens_1 14 rfl rfl)
theorem dX5_cutIntoTokens_38 : decode cX5_cutIntoTokens 38 = .ok (.iload_n 1, 1) := dk_27 (dk_at dksX5_cutIntoTokens_1 15 rfl rfl)
theorem dX5_cutIntoTokens_39 : decode cX5_cutIntoTokens 39 = .ok (.invokevirtual 250, 3) := dk_182 0 250 (dk_at dksX5_cutIntoTokens_1 16 rfl rfl)
theorem dX5_cutIntoTokens_42 : decode cX5_cutIntoTokens 42 = .ok (.istore_n 3, 1) := dk_62 (dk_at dksX5_cutIntoTokens_1 19 rfl rfl)
theorem dX5_cutIntoTokens_43 : decode cX5_cutIntoTokens 43 = .ok (.aload_n 0, 1) := dk_42 (dk_at dksX5_cutIntoTokens_1 20 rfl rfl)
theorem dX5_cutIntoTokens_44 : decode cX5_cutIntoTokens 44 = .ok (.getfield 27, 3) := dk_180 0 27 (dk_at dksX5_cutIntoTokens_1 21 rfl rfl)
theorem dX5_cutIntoTokens_47 : decode cX5_cutIntoTokens 47 = .ok (.iload_n 2, 1) := dk_28 (dk_at dksX5_cutIntoTokens_2 0 rfl rfl)
theorem dX5_cutIntoTokens_48 : decode cX5_cutIntoTokens 48 = .ok (.iload_n 1, 1) := dk_27 (dk_at dksX5_cutIntoTokens_2 1 rfl rfl)
theorem dX5_cutIntoTokens_49 : decode cX5_cutIntoTokens 49 = .ok (.iastore, 1) := dk_79 (dk_at dksX5_cutIntoTokens_2 2 rfl rfl)
theorem dX5_cutIntoTokens_50 : decode cX5_cutIntoTokens 50 = .ok (.aload_n 0, 1) := dk_42 (dk_at dksX5_cutIntoTokens_2 3 rfl rfl)
theorem dX5_cutIntoTokens_51 : decode cX5_cutIntoTokens 51 = .ok (.getfield 30, 3) := dk_180 0 30 (dk_at dksX5_cutIntoTokens_2 4 rfl rfl)
theorem dX5_cutIntoTokens_54 : decode cX5_cutIntoTokens 54 = .ok (.iload_n 2, 1) := dk_28 (dk_at dksX5_cutIntoTokens_2 7 rfl rfl)
theorem dX5_cutIntoTokens_55 : decode cX5_cutIntoTokens 55 = .ok (.iconst 0, 1) := dk_3 (dk_at dksX5_cutIntoTokens_2 8 rfl rfl)
theorem dX5_cutIntoTokens_56 : decode cX5_cutIntoTokens 56 = .ok (.iastore, 1) := dk_79 (dk_at dksX5_cutIntoTokens_2 9 rfl rfl)
theorem dX5_cutIntoTokens_57 : decode cX5_cutIntoTokens 57 = .ok (.aload_n 0, 1) := dk_42 (dk_at dksX5_cutIntoTokens_2 10 rfl rfl)
theorem dX5_cutIntoTokens_58 : decode cX5_cutIntoTokens 58 = .ok (.getfield 24, 3) := dk_180 0 24 (dk_at dksX5_cutIntoTokens_2 11 rfl rfl)
theorem dX5_cutIntoTokens_61 : decode cX5_cutIntoTokens 61 = .ok (.iload_n 2, 1) := dk_28 (dk_at dksX5_cutIntoTokens_2 14 rfl rfl)
theorem dX5_cutIntoTokens_62 : decode cX5_cutIntoTokens 62 = .ok (.aload_n 0, 1) := dk_42 (dk_at dksX5_cutIntoTokens_2 15 rfl rfl)
theorem dX5_cutIntoTokens_63 : decode cX5_cutIntoTokens 63 = .ok (.iload_n 2, 1) := dk_28 (dk_at dksX5_cutIntoTokens_2 16 rfl rfl)
theorem dX5_cutIntoTokens_64 : decode cX5_cutIntoTokens 64 = .ok (.iload_n 1, 1) := dk_27 (dk_at dksX5_cutIntoTokens_2 17 rfl rfl)
theorem dX5_cutIntoTokens_65 : decode cX5_cutIntoTokens 65 = .ok (.iload_n 3, 1) := dk_29 (dk_at dksX5_cutIntoTokens_2 18 rfl rfl)
theorem dX5_cutIntoTokens_66 : decode cX5_cutIntoTokens 66 = .ok (.invokevirtual 253, 3) := dk_182 0 253 (dk_at dksX5_cutIntoTokens_2 19 rfl rfl)
theorem dX5_cutIntoTokens_69 : decode cX5_cutIntoTokens 69 = .ok (.iastore, 1) := dk_79 (dk_at dksX5_cutIntoTokens_2 22 rfl rfl)
theorem dX5_cutIntoTokens_70 : decode cX5_cutIntoTokens 70 = .ok (.iload_n 2, 1) := dk_28 (dk_at dksX5_cutIntoTokens_2 23 rfl rfl)
theorem dX5_cutIntoTokens_71 : decode cX5_cutIntoTokens 71 = .ok (.sipush 400, 3) := dk_17 1 144 (dk_at dksX5_cutIntoTokens_3 0 rfl rfl)
theorem dX5_cutIntoTokens_74 : decode cX5_cutIntoTokens 74 = .ok (.if_icmp .ne 22, 3) := dk_160 0 22 (dk_at dksX5_cutIntoTokens_3 3 rfl rfl)
theorem dX5_cutIntoTokens_77 : decode cX5_cutIntoTokens 77 = .ok (.aload_n 0, 1) := dk_42 (dk_at dksX5_cutIntoTokens_3 6 rfl rfl)
theorem dX5_cutIntoTokens_78 : decode cX5_cutIntoTokens 78 = .ok (.getfield 24, 3) := dk_180 0 24 (dk_at dksX5_cutIntoTokens_3 7 rfl rfl)
theorem dX5_cutIntoTokens_81 : decode cX5_cutIntoTokens 81 = .ok (.iload_n 2, 1) := dk_28 (dk_at dksX5_cutIntoTokens_3 10 rfl rfl)
theorem dX5_cutIntoTokens_82 : decode cX5_cutIntoTokens 82 = .ok (.iaload, 1) := dk_46 (dk_at dksX5_cutIntoTokens_3 11 rfl rfl)
theorem dX5_cutIntoTokens_83 : decode cX5_cutIntoTokens 83 = .ok (.bipush 33, 2) := dk_16 33 (dk_at dksX5_cutIntoTokens_3 12 rfl rfl)
theorem dX5_cutIntoTokens_85 : decode cX5_cutIntoTokens 85 = .ok (.if_icmp .eq 11, 3) := dk_159 0 11 (dk_at dksX5_cutIntoTokens_3 14 rfl rfl)
theorem dX5_cutIntoTokens_88 : decode cX5_cutIntoTokens 88 = .ok (.aload_n 0, 1) := dk_42 (dk_at dksX5_cutIntoTokens_3 17 rfl rfl)
theorem dX5_cutIntoTokens_89 : decode cX5_cutIntoTokens 89 = .ok (.getfield 24, 3) := dk_180 0 24 (dk_at dksX5_cutIntoTokens_3 18 rfl rfl)
theorem dX5_cutIntoTokens_92 : decode cX5_cutIntoTokens 92 = .ok (.iload_n 2, 1) := dk_28 (dk_at dksX5_cutIntoTokens_3 21 rfl rfl)
theorem dX5_cutIntoTokens_93 : decode cX5_cutIntoTokens 93 = .ok (.bipush 32, 2) := dk_16 32 (dk_at dksX5_cutIntoTokens_3 22 rfl rfl)
theorem dX5_cutIntoTokens_95 : decode cX5_cutIntoTokens 95 = .ok (.iastore, 1) := dk_79 (dk_at dksX5_cutIntoTokens_4 0 rfl rfl)
theorem dX5_cutIntoTokens_96 : decode cX5_cutIntoTokens 96 = .ok (.aload_n 0, 1) := dk_42 (dk_at dksX5_cutIntoTokens_4 1 rfl rfl)
theorem dX5_cutIntoTokens_97 : decode cX5_cutIntoTokens 97 = .ok (.getfield 24, 3) := dk_180 0 24 (dk_at dksX5_cutIntoTokens_4 2 rfl rfl)
theorem dX5_cutIntoTokens_100 : decode cX5_cutIntoTokens 100 = .ok (.iload_n 2, 1) := dk_28 (dk_at dksX5_cutIntoTokens_4 5 rfl rfl)
theorem dX5_cutIntoTokens_101 : decode cX5_cutIntoTokens 101 = .ok (.iaload, 1) := dk_46 (dk_at dksX5_cutIntoTokens_4 6 rfl rfl)
theorem dX5_cutIntoTokens_102 : decode cX5_cutIntoTokens 102 = .ok (.bipush 32, 2) := dk_16 32 (dk_at dksX5_cutIntoTokens_4 7 rfl rfl)
theorem dX5_cutIntoTokens_104 : decode cX5_cutIntoTokens 104 = .ok (.if_icmp .eq 14, 3) := dk_159 0 14 (dk_at dksX5_cutIntoTokens_4 9 rfl rfl)
theorem dX5_cutIntoTokens_107 : decode cX5_cutIntoTokens 107 = .ok (.aload_n 0, 1) := dk_42 (dk_at dksX5_cutIntoTokens_4 12 rfl rfl)
theorem dX5_cutIntoTokens_108 : decode cX5_cutIntoTokens 108 = .ok (.getfield 24, 3) := dk_180 0 24 (dk_at dksX5_cutIntoTokens_4 13 rfl rfl)
theorem dX5_cutIntoTokens_111 : decode cX5_cutIntoTokens 111 = .ok (.iload_n 2, 1) := dk_28 (dk_at dksX5_cutIntoTokens_4 16 rfl rfl)
theorem dX5_cutIntoTokens_112 : decode cX5_cutIntoTokens 112 = .ok (.iaload, 1) := dk_46 (dk_at dksX5_cutIntoTokens_4 17 rfl rfl)
theorem dX5_cutIntoTokens_113 : decode cX5_cutIntoTokens 113 = .ok (.bipush 33, 2) := dk_16 33 (dk_at dksX5_cutIntoTokens_4 18 rfl rfl)
theorem dX5_cutIntoTokens_115 : decode cX5_cutIntoTokens 115 = .ok (.if_icmp .ne 4, 3) := dk_160 0 4 (dk_at dksX5_cutIntoTokens_4 20 rfl rfl)
theorem dX5_cutIntoTokens_118 : decode cX5_cutIntoTokens 118 = .ok (.return_, 1) := dk_177 (dk_at dksX5_cutIntoTokens_4 23 rfl rfl)
theorem dX5_cutIntoTokens_119 : decode cX5_cutIntoTokens 119 = .ok (.iload_n 3, 1) := dk_29 (dk_at dksX5_cutIntoTokens_5 0 rfl rfl)
theorem dX5_cutIntoTokens_120 : decode cX5_cutIntoTokens 120 = .ok (.istore_n 1, 1) := dk_60 (dk_at dksX5_cutIntoTokens_5 1 rfl rfl)
theorem dX5_cutIntoTokens_121 : decode cX5_cutIntoTokens 121 = .ok (.iinc 2 1, 3) := dk_132 2 1 (dk_at dksX5_cutIntoTokens_5 2 rfl rfl)
theorem dX5_cutIntoTokens_124 : decode cX5_cutIntoTokens 124 = .ok (.goto (-120), 3) := dk_167 255 136 (dk_at dksX5_cutIntoTokens_5 5 rfl rfl)
theorem dX5_cutIntoTokens_127 : decode cX5_cutIntoTokens 127 = .ok (.return_, 1) := dk_177 (dk_at dksX5_cutIntoTokens_5 8 rfl rfl)
theorem fdX5_27_4 : sd_Fd "SofaDigModel" 27 4 6 := ⟨(RX5, TX5, 18), "SofaDigModel", rfl, by decide, rfl, in_X5, Or.inl rfl, Or.inl q2856⟩
theorem fdX5_30_4 : sd_Fd "SofaDigModel" 30 4 7 := ⟨(RX5, TX5, 18), "SofaDigModel", rfl, by decide, rfl, in_X5, Or.inl rfl, Or.inl q2857⟩
theorem fdX5_24_4 : sd_Fd "SofaDigModel" 24 4 5 := ⟨(RX5, TX5, 18), "SofaDigModel", rfl, by decide, rfl, in_X5, Or.inl rfl, Or.inl q2855⟩
abbrev mX5_cutIntoTokens : sd_Y := (yX5_cutIntoTokens, cX5_cutIntoTokens, 4, none, none)
def fX5_cutIntoTokens_b96 (G : sd_G) (k4 : Nat × Int32 × Int32 → sd_M Unit) (w0 : Nat) (w2 : Int32) (w3 : Int32) : sd_M Unit :=
  sd_bnd (sd_getR G 4 5 w0) fun v9 =>
  sd_bnd (sd_aldI G 0 v9 w2) fun v10 =>
  if v10 = 32 then (
    sd_ret ())
  else (
    sd_bnd (sd_getR G 4 5 w0) fun v11 =>
    sd_bnd (sd_aldI G 0 v11 w2) fun v12 =>
    if v12 = 33 then (
      sd_ret ())
    else (
      sd_bnd (sd_ret (w2 + 1)) fun x13 =>
      k4 (w0, w3, x13)))
set_option maxHeartbeats 4000000 in
theorem sX5_cutIntoTokens_b96 (l : Launch) (G : sd_G) (a0 : Nat) (ρ : Unit) (h2 : sd_H) (cT : Nat × Nat) (k4 : Nat × Int32 × Int32 → sd_M Unit) (Hk4 : ∀ (q : Nat × Int32 × Int32) (h : sd_H) (c : Nat × Nat), k4 q h = some (ρ, c, h2) → sd_J mX5_cutIntoTokens ((l, G), (7, 158), [.ref a0], (sd_oV ρ, h2), cT) 4 [(0, .ref q.1), (1, .int q.2.1), (2, .int q.2.2)] [] h c) (w0 : Nat) (w2 : Int32) (w3 : Int32) (h : sd_H) (c : Nat × Nat) (hf : fX5_cutIntoTokens_b96 G k4 w0 w2 w3 h = some (ρ, c, h2)) : sd_J mX5_cutIntoTokens ((l, G), (7, 158), [.ref a0], (sd_oV ρ, h2), cT) 96 [(0, .ref w0), (2, .int w2), (3, .int w3)] [] h c := by
  unfold fX5_cutIntoTokens_b96 at hf
  refine sj_aload_n 0 dX5_cutIntoTokens_96 rfl ?_
  refine sj_getR fdX5_24_4 hf dX5_cutIntoTokens_97 (fun v9 hf => ?_)
  refine sj_iload_n 1 dX5_cutIntoTokens_100 rfl ?_
  refine sj_iald hf dX5_cutIntoTokens_101 (fun v10 hf => ?_)
  refine sj_bipush (v := 32) dX5_cutIntoTokens_102 (by decide) ?_
  refine sj_iceq 118 hf dX5_cutIntoTokens_104 (by decide) (fun g104 hf => ?_) (fun g104 hf => ?_)
  · exact sj_vret (o := sd_oV) hf rfl rfl rfl dX5_cutIntoTokens_118
  · refine sj_aload_n 0 dX5_cutIntoTokens_107 rfl ?_
    refine sj_getR fdX5_24_4 hf dX5_cutIntoTokens_108 (fun v11 hf => ?_)
    refine sj_iload_n 1 dX5_cutIntoTokens_111 rfl ?_
    refine sj_iald hf dX5_cutIntoTokens_112 (fun v12 hf => ?_)
    refine sj_bipush (v := 33) dX5_cutIntoTokens_113 (by decide) ?_
    refine sj_icne 119 hf dX5_cutIntoTokens_115 (by decide) (fun g115 hf => ?_) (fun g115 hf => ?_)
    · refine sj_iload_n 2 dX5_cutIntoTokens_119 rfl ?_
      refine sj_istore_n [(1, .int w3), (0, .ref w0), (2, .int w2), (3, .int w3)] dX5_cutIntoTokens_120 (by decide) rfl ?_
      refine sj_iincN 2 (fun x13 => [(2, .int x13), (1, .int w3), (0, .ref w0), (3, .int w3)]) 1 hf dX5_cutIntoTokens_121 rfl (by decide) (by decide) (fun _ => rfl) (fun x13 hf => ?_)
      refine sj_goto 4 dX5_cutIntoTokens_124 (by decide) ?_
      exact sj_loc [2, 1, 0] rfl (Hk4 (w0, w3, x13) _ _ hf)
    · exact sj_vret (o := sd_oV) hf rfl rfl rfl dX5_cutIntoTokens_118
def fX5_cutIntoTokens_b11 (G : sd_G) (k4 : Nat × Int32 × Int32 → sd_M Unit) (k11 : Nat × Int32 × Int32 → sd_M Unit) (w0 : Nat) (w1 : Int32) (w2 : Int32) : sd_M Unit :=
  sd_bnd (sd_isC G 4 w0) fun _ =>
  sd_bnd (fX5_byteOf G w0 w1) fun r1 =>
  if r1 = 32 then (
    sd_bnd (sd_ret (w1 + 1)) fun x2 =>
    k11 (w0, x2, w2))
  else (
    sd_bnd (sd_isC G 4 w0) fun _ =>
    sd_bnd (fX5_byteOf G w0 w1) fun r3 =>
    if r3 = 10 then (
      sd_bnd (sd_ret (w1 + 1)) fun x17 =>
      k11 (w0, x17, w2))
    else (
      sd_bnd (sd_isC G 4 w0) fun _ =>
      sd_bnd (fX5_endOf G w0 w1) fun r4 =>
      sd_bnd (sd_getR G 4 6 w0) fun v5 =>
      sd_bnd (sd_astI 0 v5 w2 w1) fun _ =>
      sd_bnd (sd_getR G 4 7 w0) fun v6 =>
      sd_bnd (sd_astI 0 v6 w2 0) fun _ =>
      sd_bnd (sd_getR G 4 5 w0) fun v7 =>
      sd_bnd (sd_isC G 4 w0) fun _ =>
      sd_bnd (fX5_kindOf G w0 w2 w1 r4) fun r8 =>
      sd_bnd (sd_astI 0 v7 w2 r8) fun _ =>
      if w2 = 400 then (
        sd_bnd (sd_getR G 4 5 w0) fun v14 =>
        sd_bnd (sd_aldI G 0 v14 w2) fun v15 =>
        if v15 = 33 then (
          fX5_cutIntoTokens_b96 G k4 w0 w2 r4)
        else (
          sd_bnd (sd_getR G 4 5 w0) fun v16 =>
          sd_bnd (sd_astI 0 v16 w2 32) fun _ =>
          fX5_cutIntoTokens_b96 G k4 w0 w2 r4))
      else (
        fX5_cutIntoTokens_b96 G k4 w0 w2 r4)))
set_option maxHeartbeats 4000000 in
theorem sX5_cutIntoTokens_b11 (l : Launch) (G : sd_G) (a0 : Nat) (ρ : Unit) (h2 : sd_H) (cT : Nat × Nat) (k4 : Nat × Int32 × Int32 → sd_M Unit) (Hk4 : ∀ (q : Nat × Int32 × Int32) (h : sd_H) (c : Nat × Nat), k4 q h = some (ρ, c, h2) → sd_J mX5_cutIntoTokens ((l, G), (7, 158), [.ref a0], (sd_oV ρ, h2), cT) 4 [(0, .ref q.1), (1, .int q.2.1), (2, .int q.2.2)] [] h c) (k11 : Nat × Int32 × Int32 → sd_M Unit) (Hk11 : ∀ (q : Nat × Int32 × Int32) (h : sd_H) (c : Nat × Nat), k11 q h = some (ρ, c, h2) → sd_J mX5_cutIntoTokens ((l, G), (7, 158), [.ref a0], (sd_oV ρ, h2), cT) 11 [(0, .ref q.1), (1, .int q.2.1), (2, .int q.2.2)] [] h c) (w0 : Nat) (w1 : Int32) (w2 : Int32) (h : sd_H) (c : Nat × Nat) (hf : fX5_cutIntoTokens_b11 G k4 k11 w0 w1 w2 h = some (ρ, c, h2)) : sd_J mX5_cutIntoTokens ((l, G), (7, 158), [.ref a0], (sd_oV ρ, h2), cT) 11 [(0, .ref w0), (1, .int w1), (2, .int w2)] [] h c := by
  unfold fX5_cutIntoTokens_b11 at hf
  refine sj_aload_n 0 dX5_cutIntoTokens_11 rfl ?_
  refine sj_iload_n 1 dX5_cutIntoTokens_12 rfl ?_
  obtain ⟨fs13, he13, hf⟩ := sd_isC_some hf
  refine sj_cI (rest := []) (fun _ _ _ e => sj_runV (n := 1) (As := [.int w1]) (rest := []) (sX5_byteOf l G w0 w1 h _ _ _ e) he13 rfl rfl rfl rfl q2936 q2938 qs45 q127 q2939 (by decide +kernel) rfl rfl ⟨Nat.le_of_ble_eq_true rfl, Nat.le_of_ble_eq_true rfl⟩ rfl (Nat.le_of_ble_eq_true rfl) dX5_cutIntoTokens_13) hf (fun r1 h c hf => ?_)
  refine sj_bipush (v := 32) dX5_cutIntoTokens_16 (by decide) ?_
  refine sj_iceq 31 hf dX5_cutIntoTokens_18 (by decide) (fun g18 hf => ?_) (fun g18 hf => ?_)
  · refine sj_iincN 1 (fun x2 => [(1, .int x2), (0, .ref w0), (2, .int w2)]) 1 hf dX5_cutIntoTokens_31 rfl (by decide) (by decide) (fun _ => rfl) (fun x2 hf => ?_)
    refine sj_goto 11 dX5_cutIntoTokens_34 (by decide) ?_
    exact sj_loc [1, 0, 2] rfl (Hk11 (w0, x2, w2) _ _ hf)
  · refine sj_aload_n 0 dX5_cutIntoTokens_21 rfl ?_
    refine sj_iload_n 1 dX5_cutIntoTokens_22 rfl ?_
    obtain ⟨fs23, he23, hf⟩ := sd_isC_some hf
    refine sj_cI (rest := []) (fun _ _ _ e => sj_runV (n := 1) (As := [.int w1]) (rest := []) (sX5_byteOf l G w0 w1 h _ _ _ e) he23 rfl rfl rfl rfl q2936 q2938 qs45 q127 q2939 (by decide +kernel) rfl rfl ⟨Nat.le_of_ble_eq_true rfl, Nat.le_of_ble_eq_true rfl⟩ rfl (Nat.le_of_ble_eq_true rfl) dX5_cutIntoTokens_23) hf (fun r3 h c hf => ?_)
    refine sj_bipush (v := 10) dX5_cutIntoTokens_26 (by decide) ?_
    refine sj_icne 37 hf dX5_cutIntoTokens_28 (by decide) (fun g28 hf => ?_) (fun g28 hf => ?_)
    · refine sj_aload_n 0 dX5_cutIntoTokens_37 rfl ?_
      refine sj_iload_n 1 dX5_cutIntoTokens_38 rfl ?_
      obtain ⟨fs39, he39, hf⟩ := sd_isC_some hf
      refine sj_cI (rest := []) (fun _ _ _ e => sj_runV (n := 1) (As := [.int w1]) (rest := []) (sX5_endOf l G w0 w1 h _ _ _ e) he39 rfl rfl rfl rfl q2940 q2942 qs46 q127 q2943 (by decide +kernel) rfl rfl ⟨Nat.le_of_ble_eq_true rfl, Nat.le_of_ble_eq_true rfl⟩ rfl (Nat.le_of_ble_eq_true rfl) dX5_cutIntoTokens_39) hf (fun r4 h c hf => ?_)
      refine sj_istore_n [(3, .int r4), (0, .ref w0), (1, .int w1), (2, .int w2)] dX5_cutIntoTokens_42 (by decide) rfl ?_
      refine sj_aload_n 1 dX5_cutIntoTokens_43 rfl ?_
      refine sj_getR fdX5_27_4 hf dX5_cutIntoTokens_44 (fun v5 hf => ?_)
      refine sj_iload_n 3 dX5_cutIntoTokens_47 rfl ?_
      refine sj_iload_n 2 dX5_cutIntoTokens_48 rfl ?_
      refine sj_iast hf dX5_cutIntoTokens_49 (fun h hf => ?_)
      refine sj_aload_n 1 dX5_cutIntoTokens_50 rfl ?_
      refine sj_getR fdX5_30_4 hf dX5_cutIntoTokens_51 (fun v6 hf => ?_)
      refine sj_iload_n 3 dX5_cutIntoTokens_54 rfl ?_
      refine sj_iconst (v := 0) dX5_cutIntoTokens_55 (by decide) ?_
      refine sj_iast hf dX5_cutIntoTokens_56 (fun h hf => ?_)
      refine sj_aload_n 1 dX5_cutIntoTokens_57 rfl ?_
      refine sj_getR fdX5_24_4 hf dX5_cutIntoTokens_58 (fun v7 hf => ?_)
      refine sj_iload_n 3 dX5_cutIntoTokens_61 rfl ?_
      refine sj_aload_n 1 dX5_cutIntoTokens_62 rfl ?_
      refine sj_iload_n 3 dX5_cutIntoTokens_63 rfl ?_
      refine sj_iload_n 2 dX5_cutIntoTokens_64 rfl ?_
      refine sj_iload_n 0 dX5_cutIntoTokens_65 rfl ?_
      obtain ⟨fs66, he66, hf⟩ := sd_isC_some hf
      refine sj_cI (rest := [.int w2, .ref v7]) (fun _ _ _ e => sj_runV (n := 3) (As := [.int w2, .int w1, .int r4]) (rest := [.int w2, .ref v7]) (sX5_kindOf l G w0 w2 w1 r4 h _ _ _ e) he66 rfl rfl rfl rfl q2950 q2952 qs47 q127 q2953 (by decide +kernel) rfl rfl ⟨Nat.le_of_ble_eq_true rfl, Nat.le_of_ble_eq_true rfl⟩ rfl (Nat.le_of_ble_eq_true rfl) dX5_cutIntoTokens_66) hf (fun r8 h c hf => ?_)
      refine sj_iast hf dX5_cutIntoTokens_69 (fun h hf => ?_)
      refine sj_iload_n 3 dX5_cutIntoTokens_70 rfl ?_
      refine sj_sipush (v := 400) dX5_cutIntoTokens_71 (by decide) ?_
      refine sj_icne 96 hf dX5_cutIntoTokens_74 (by decide) (fun g74 hf => ?_) (fun g74 hf => ?_)
      · exact sj_loc [1, 3, 0] rfl (sX5_cutIntoTokens_b96 l G a0 ρ h2 cT k4 Hk4 w0 w2 r4 _ _ hf)
      · refine sj_aload_n 1 dX5_cutIntoTokens_77 rfl ?_
        refine sj_getR fdX5_24_4 hf dX5_cutIntoTokens_78 (fun v14 hf => ?_)
        refine sj_iload_n 3 dX5_cutIntoTokens_81 rfl ?_
        refine sj_iald hf dX5_cutIntoTokens_82 (fun v15 hf => ?_)
        refine sj_bipush (v := 33) dX5_cutIntoTokens_83 (by decide) ?_
        refine sj_iceq 96 hf dX5_cutIntoTokens_85 (by decide) (fun g85 hf => ?_) (fun g85 hf => ?_)
        · exact sj_loc [1, 3, 0] rfl (sX5_cutIntoTokens_b96 l G a0 ρ h2 cT k4 Hk4 w0 w2 r4 _ _ hf)
        · refine sj_aload_n 1 dX5_cutIntoTokens_88 rfl ?_
          refine sj_getR fdX5_24_4 hf dX5_cutIntoTokens_89 (fun v16 hf => ?_)
          refine sj_iload_n 3 dX5_cutIntoTokens_92 rfl ?_
          refine sj_bipush (v := 32) dX5_cutIntoTokens_93 (by decide) ?_
          refine sj_iast hf dX5_cutIntoTokens_95 (fun h hf => ?_)
          exact sj_loc [1, 3, 0] rfl (sX5_cutIntoTokens_b96 l G a0 ρ h2 cT k4 Hk4 w0 w2 r4 _ _ hf)
    · refine sj_iincN 1 (fun x17 => [(1, .int x17), (0, .ref w0), (2, .int w2)]) 1 hf dX5_cutIntoTokens_31 rfl (by decide) (by decide) (fun _ => rfl) (fun x17 hf => ?_)
      refine sj_goto 11 dX5_cutIntoTokens_34 (by decide) ?_
      exact sj_loc [1, 0, 2] rfl (Hk11 (w0, x17, w2) _ _ hf)
theorem sX5_cutIntoTokens_b11_loop (l : Launch) (G : sd_G) (a0 : Nat) (ρ : Unit) (h2 : sd_H) (cT : Nat × Nat) (k4 : Nat × Int32 × Int32 → sd_M Unit) (Hk4 : ∀ (q : Nat × Int32 × Int32) (h : sd_H) (c : Nat × Nat), k4 q h = some (ρ, c, h2) → sd_J mX5_cutIntoTokens ((l, G), (7, 158), [.ref a0], (sd_oV ρ, h2), cT) 4 [(0, .ref q.1), (1, .int q.2.1), (2, .int q.2.2)] [] h c) (n : Nat) : ∀ (q : Nat × Int32 × Int32) (h : sd_H) (c : Nat × Nat), sd_loop (fun k s => fX5_cutIntoTokens_b11 G k4 k s.1 s.2.1 s.2.2) n q h = some (ρ, c, h2) → sd_J mX5_cutIntoTokens ((l, G), (7, 158), [.ref a0], (sd_oV ρ, h2), cT) 11 [(0, .ref q.1), (1, .int q.2.1), (2, .int q.2.2)] [] h c := by
  induction n with
  | zero => intro q h c hf; cases hf
  | succ n ih => intro q h c hf; exact sX5_cutIntoTokens_b11 l G a0 ρ h2 cT k4 Hk4 _ ih _ _ _ _ _ hf
def fX5_cutIntoTokens_b4 (G : sd_G) (k4 : Nat × Int32 × Int32 → sd_M Unit) (w0 : Nat) (w1 : Int32) (w2 : Int32) : sd_M Unit :=
  if 400 < w2 then (
    sd_ret ())
  else (
    sd_loop (fun k s => fX5_cutIntoTokens_b11 G k4 k s.1 s.2.1 s.2.2) sd_FU (w0, w1, w2))
set_option maxHeartbeats 4000000 in
theorem sX5_cutIntoTokens_b4 (l : Launch) (G : sd_G) (a0 : Nat) (ρ : Unit) (h2 : sd_H) (cT : Nat × Nat) (k4 : Nat × Int32 × Int32 → sd_M Unit) (Hk4 : ∀ (q : Nat × Int32 × Int32) (h : sd_H) (c : Nat × Nat), k4 q h = some (ρ, c, h2) → sd_J mX5_cutIntoTokens ((l, G), (7, 158), [.ref a0], (sd_oV ρ, h2), cT) 4 [(0, .ref q.1), (1, .int q.2.1), (2, .int q.2.2)] [] h c) (w0 : Nat) (w1 : Int32) (w2 : Int32) (h : sd_H) (c : Nat × Nat) (hf : fX5_cutIntoTokens_b4 G k4 w0 w1 w2 h = some (ρ, c, h2)) : sd_J mX5_cutIntoTokens ((l, G), (7, 158), [.ref a0], (sd_oV ρ, h2), cT) 4 [(0, .ref w0), (1, .int w1), (2, .int w2)] [] h c := by
  unfold fX5_cutIntoTokens_b4 at hf
  refine sj_iload_n 2 dX5_cutIntoTokens_4 rfl ?_
  refine sj_sipush (v := 400) dX5_cutIntoTokens_5 (by decide) ?_
  refine sj_icgt 127 hf dX5_cutIntoTokens_8 (by decide) (fun g8 hf => ?_) (fun g8 hf => ?_)
  · exact sj_vret (o := sd_oV) hf rfl rfl rfl dX5_cutIntoTokens_127
  · exact sj_loc [0, 1, 2] rfl (sX5_cutIntoTokens_b11_loop l G a0 ρ h2 cT k4 Hk4 sd_FU (w0, w1, w2) _ _ hf)
theorem sX5_cutIntoTokens_b4_loop (l : Launch) (G : sd_G) (a0 : Nat) (ρ : Unit) (h2 : sd_H) (cT : Nat × Nat) (n : Nat) : ∀ (q : Nat × Int32 × Int32) (h : sd_H) (c : Nat × Nat), sd_loop (fun k s => fX5_cutIntoTokens_b4 G k s.1 s.2.1 s.2.2) n q h = some (ρ, c, h2) → sd_J mX5_cutIntoTokens ((l, G), (7, 158), [.ref a0], (sd_oV ρ, h2), cT) 4 [(0, .ref q.1), (1, .int q.2.1), (2, .int q.2.2)] [] h c := by
  induction n with
  | zero => intro q h c hf; cases hf
  | succ n ih => intro q h c hf; exact sX5_cutIntoTokens_b4 l G a0 ρ h2 cT _ ih _ _ _ _ _ hf
def fX5_cutIntoTokens (G : sd_G) (a0 : Nat) : sd_M Unit :=
  sd_loop (fun k s => fX5_cutIntoTokens_b4 G k s.1 s.2.1 s.2.2) sd_FU (a0, 0, 0)
set_option maxHeartbeats 4000000 in
theorem sX5_cutIntoTokens (l : Launch) (G : sd_G) (a0 : Nat) (h : sd_H) (ρ : Unit) (cT : Nat × Nat) (h2 : sd_H) (hf : fX5_cutIntoTokens G a0 h = some (ρ, cT, h2)) : sd_Met mX5_cutIntoTokens ((l, G), (7, 158), [.ref a0], (sd_oV ρ, h2), cT) h := by
  refine sd_entry (plainFor_of_name rfl) rfl (Nat.le_of_ble_eq_true rfl) ?_
  show sd_J mX5_cutIntoTokens ((l, G), (7, 158), [.ref a0], (sd_oV ρ, h2), cT) 0 [(0, .ref a0)] [] h cT
  unfold fX5_cutIntoTokens at hf
  refine sj_iconst (v := 0) dX5_cutIntoTokens_0 (by decide) ?_
  refine sj_istore_n [(1, .int 0), (0, .ref a0)] dX5_cutIntoTokens_1 (by decide) rfl ?_
  refine sj_iconst (v := 0) dX5_cutIntoTokens_2 (by decide) ?_
  refine sj_istore_n [(2, .int 0), (1, .int 0), (0, .ref a0)] dX5_cutIntoTokens_3 (by decide) rfl ?_
  exact sj_loc [2, 1, 0] rfl (sX5_cutIntoTokens_b4_loop l G a0 ρ h2 cT sd_FU (a0, 0, 0) _ _ hf)
/-! SofaDigModel.eat(I)Z -/
abbrev cX5_eat : ByteArray := prog_46_method_49_code
def yX5_eat : MethodName := ⟨RX5, "eat", "(I)Z"⟩
def dkwX5_eat_1 : List UInt8 := [181, 1, 0, 4, 172]
abbrev dktX5_eat_1 : List UInt8 := dkwX5_eat_1 ++ []
def dkwX5_eat_0 : List UInt8 := [42, 180, 0, 24, 42, 180, 1, 0, 46, 27, 159, 0, 5, 3, 172, 42, 89, 180, 1, 0, 4, 96]
abbrev dktX5_eat_0 : List UInt8 := dkwX5_eat_0 ++ dktX5_eat_1
theorem dksX5_eat_0 : cX5_eat.data.toList.drop 0 = dktX5_eat_0 := by decide +kernel
theorem dksX5_eat_1 : cX5_eat.data.toList.drop 22 = dktX5_eat_1 := dk_seg dksX5_eat_0 22 rfl rfl
theorem dX5_eat_0 : decode cX5_eat 0 = .ok (.aload_n 0, 1) := dk_42 (dk_at dksX5_eat_0 0 rfl rfl)
theorem dX5_eat_1 : decode cX5_eat 1 = .ok (.getfield 24, 3) := dk_180 0 24 (dk_at dksX5_eat_0 1 rfl rfl)
theorem dX5_eat_4 : decode cX5_eat 4 = .ok (.aload_n 0, 1) := dk_42 (dk_at dksX5_eat_0 4 rfl rfl)
theorem dX5_eat_5 : decode cX5_eat 5 = .ok (.getfield 256, 3) := dk_180 1 0 (dk_at dksX5_eat_0 5 rfl rfl)
theorem dX5_eat_8 : decode cX5_eat 8 = .ok (.iaload, 1) := dk_46 (dk_at dksX5_eat_0 8 rfl rfl)
theorem dX5_eat_9 : decode cX5_eat 9 = .ok (.iload_n 1, 1) := dk_27 (dk_at dksX5_eat_0 9 rfl rfl)
theorem dX5_eat_10 : decode cX5_eat 10 = .ok (.if_icmp .eq 5, 3) := dk_159 0 5 (dk_at dksX5_eat_0 10 rfl rfl)
theorem dX5_eat_13 : decode cX5_eat 13 = .ok (.iconst 0, 1) := dk_3 (dk_at dksX5_eat_0 13 rfl rfl)
theorem dX5_eat_14 : decode cX5_eat 14 = .ok (.ireturn, 1) := dk_172 (dk_at dksX5_eat_0 14 rfl rfl)
theorem dX5_eat_15 : decode cX5_eat 15 = .ok (.aload_n 0, 1) := dk_42 (dk_at dksX5_eat_0 15 rfl rfl)
theorem dX5_eat_16 : decode cX5_eat 16 = .ok (.dup, 1) := dk_89 (dk_at dksX5_eat_0 16 rfl rfl)
theorem dX5_eat_17 : decode cX5_eat 17 = .ok (.getfield 256, 3) := dk_180 1 0 (dk_at dksX5_eat_0 17 rfl rfl)
theorem dX5_eat_20 : decode cX5_eat 20 = .ok (.iconst 1, 1) := dk_4 (dk_at dksX5_eat_0 20 rfl rfl)
theorem dX5_eat_21 : decode cX5_eat 21 = .ok (.iadd, 1) := dk_96 (dk_at dksX5_eat_0 21 rfl rfl)
theorem dX5_eat_22 : decode cX5_eat 22 = .ok (.putfield 256, 3) := dk_181 1 0 (dk_at dksX5_eat_1 0 rfl rfl)
theorem dX5_eat_25 : decode cX5_eat 25 = .ok (.iconst 1, 1) := dk_4 (dk_at dksX5_eat_1 3 rfl rfl)
theorem dX5_eat_26 : decode cX5_eat 26 = .ok (.ireturn, 1) := dk_172 (dk_at dksX5_eat_1 4 rfl rfl)
theorem fdX5_256_4 : sd_Fd "SofaDigModel" 256 4 10 := ⟨(RX5, TX5, 18), "SofaDigModel", rfl, by decide, rfl, in_X5, Or.inl rfl, Or.inl q2860⟩
theorem fpX5_256_4 (n d : String) : sd_Fp ⟨"SofaDigModel", n, d⟩ 256 4 10 .int := ⟨(RX5, TX5, 18), "SofaDigModel", tyX5, rfl, by decide, rfl, in_X5, Or.inl rfl, tyX5_ok, nmX5, rfl, Or.inl ⟨rfl, Or.inl q2860⟩⟩
abbrev mX5_eat : sd_Y := (yX5_eat, cX5_eat, 2, some (.boolean), none)
def fX5_eat (G : sd_G) (a0 : Nat) (a1 : Int32) : sd_M Int32 :=
  sd_bnd (sd_getR G 4 5 a0) fun v1 =>
  sd_bnd (sd_getI G 4 10 a0) fun v2 =>
  sd_bnd (sd_aldI G 0 v1 v2) fun v3 =>
  if v3 = a1 then (
    sd_bnd (sd_getI G 4 10 a0) fun v4 =>
    sd_bnd (sd_put 4 10 .int a0 (.int (v4 + 1))) fun _ =>
    sd_ret 1)
  else (
    sd_ret 0)
set_option maxHeartbeats 4000000 in
theorem sX5_eat (l : Launch) (G : sd_G) (a0 : Nat) (a1 : Int32) (h : sd_H) (ρ : Int32) (cT : Nat × Nat) (h2 : sd_H) (hf : fX5_eat G a0 a1 h = some (ρ, cT, h2)) : sd_Met mX5_eat ((l, G), (0, 0), [.ref a0, .int a1], (sd_oI ρ, h2), cT) h := by
  refine sd_entry (plainFor_of_name rfl) rfl (Nat.le_of_ble_eq_true rfl) ?_
  show sd_J mX5_eat ((l, G), (0, 0), [.ref a0, .int a1], (sd_oI ρ, h2), cT) 0 [(0, .ref a0), (1, .int a1)] [] h cT
  unfold fX5_eat at hf
  refine sj_aload_n 0 dX5_eat_0 rfl ?_
  refine sj_getR fdX5_24_4 hf dX5_eat_1 (fun v1 hf => ?_)
  refine sj_aload_n 0 dX5_eat_4 rfl ?_
  refine sj_getI fdX5_256_4 hf dX5_eat_5 (fun v2 hf => ?_)
  refine sj_iald hf dX5_eat_8 (fun v3 hf => ?_)
  refine sj_iload_n 1 dX5_eat_9 rfl ?_
  refine sj_iceq 15 hf dX5_eat_10 (by decide) (fun g10 hf => ?_) (fun g10 hf => ?_)
  · refine sj_aload_n 0 dX5_eat_15 rfl ?_
    refine sj_dup dX5_eat_16 rfl ?_
    refine sj_getI fdX5_256_4 hf dX5_eat_17 (fun v4 hf => ?_)
    refine sj_iconst (v := 1) dX5_eat_20 (by decide) ?_
    refine sj_iadd dX5_eat_21 ?_
    refine sj_put (fpX5_256_4 _ _) hf dX5_eat_22 (fun h hf => ?_)
    refine sj_iconst (v := 1) dX5_eat_25 (by decide) ?_
    exact sj_zretC (o := sd_oI) (ty := .boolean) rfl hf rfl rfl rfl dX5_eat_26
  · refine sj_iconst (v := 0) dX5_eat_13 (by decide) ?_
    exact sj_zretC (o := sd_oI) (ty := .boolean) rfl hf rfl rfl rfl dX5_eat_14
/-! SofaDigModel.eatAs(II)Z -/
abbrev cX5_eatAs : ByteArray := prog_46_method_50_code
def yX5_eatAs : MethodName := ⟨RX5, "eatAs", "(II)Z"⟩
def dkwX5_eatAs_0 : List UInt8 := [42, 180, 0, 30, 42, 180, 1, 0, 28, 79, 42, 27, 182, 1, 3, 172]
abbrev dktX5_eatAs_0 : List UInt8 := dkwX5_eatAs_0 ++ []
theorem dksX5_eatAs_0 : cX5_eatAs.data.toList.drop 0 = dktX5_eatAs_0 := by decide +kernel
theorem dX5_eatAs_0 : decode cX5_eatAs 0 = .ok (.aload_n 0, 1) := dk_42 (dk_at dksX5_eatAs_0 0 rfl rfl)
theorem dX5_eatAs_1 : decode cX5_eatAs 1 = .ok (.getfield 30, 3) := dk_180 0 30 (dk_at dksX5_eatAs_0 1 rfl rfl)
theorem dX5_eatAs_4 : decode cX5_eatAs 4 = .ok (.aload_n 0, 1) := dk_42 (dk_at dksX5_eatAs_0 4 rfl rfl)
theorem dX5_eatAs_5 : decode cX5_eatAs 5 = .ok (.getfield 256, 3) := dk_180 1 0 (dk_at dksX5_eatAs_0 5 rfl rfl)
theorem dX5_eatAs_8 : decode cX5_eatAs 8 = .ok (.iload_n 2, 1) := dk_28 (dk_at dksX5_eatAs_0 8 rfl rfl)
theorem dX5_eatAs_9 : decode cX5_eatAs 9 = .ok (.iastore, 1) := dk_79 (dk_at dksX5_eatAs_0 9 rfl rfl)
theorem dX5_eatAs_10 : decode cX5_eatAs 10 = .ok (.aload_n 0, 1) := dk_42 (dk_at dksX5_eatAs_0 10 rfl rfl)
theorem dX5_eatAs_11 : decode cX5_eatAs 11 = .ok (.iload_n 1, 1) := dk_27 (dk_at dksX5_eatAs_0 11 rfl rfl)
theorem dX5_eatAs_12 : decode cX5_eatAs 12 = .ok (.invokevirtual 259, 3) := dk_182 1 3 (dk_at dksX5_eatAs_0 12 rfl rfl)
theorem dX5_eatAs_15 : decode cX5_eatAs 15 = .ok (.ireturn, 1) := dk_172 (dk_at dksX5_eatAs_0 15 rfl rfl)
abbrev mX5_eatAs : sd_Y := (yX5_eatAs, cX5_eatAs, 3, some (.boolean), none)
def fX5_eatAs (G : sd_G) (a0 : Nat) (a1 : Int32) (a2 : Int32) : sd_M Int32 :=
  sd_bnd (sd_getR G 4 7 a0) fun v1 =>
  sd_bnd (sd_getI G 4 10 a0) fun v2 =>
  sd_bnd (sd_astI 0 v1 v2 a2) fun _ =>
  sd_bnd (sd_isC G 4 a0) fun _ =>
  sd_bnd (fX5_eat G a0 a1) fun r3 =>
  sd_retN .boolean r3
set_option maxHeartbeats 4000000 in
theorem sX5_eatAs (l : Launch) (G : sd_G) (a0 : Nat) (a1 : Int32) (a2 : Int32) (h : sd_H) (ρ : Int32) (cT : Nat × Nat) (h2 : sd_H) (hf : fX5_eatAs G a0 a1 a2 h = some (ρ, cT, h2)) : sd_Met mX5_eatAs ((l, G), (1, 21), [.ref a0, .int a1, .int a2], (sd_oI ρ, h2), cT) h := by
  refine sd_entry (plainFor_of_name rfl) rfl (Nat.le_of_ble_eq_true rfl) ?_
  show sd_J mX5_eatAs ((l, G), (1, 21), [.ref a0, .int a1, .int a2], (sd_oI ρ, h2), cT) 0 [(0, .ref a0), (1, .int a1), (2, .int a2)] [] h cT
  unfold fX5_eatAs at hf
  refine sj_aload_n 0 dX5_eatAs_0 rfl ?_
  refine sj_getR fdX5_30_4 hf dX5_eatAs_1 (fun v1 hf => ?_)
  refine sj_aload_n 0 dX5_eatAs_4 rfl ?_
  refine sj_getI fdX5_256_4 hf dX5_eatAs_5 (fun v2 hf => ?_)
  refine sj_iload_n 2 dX5_eatAs_8 rfl ?_
  refine sj_iast hf dX5_eatAs_9 (fun h hf => ?_)
  refine sj_aload_n 0 dX5_eatAs_10 rfl ?_
  refine sj_iload_n 1 dX5_eatAs_11 rfl ?_
  obtain ⟨fs12, he12, hf⟩ := sd_isC_some hf
  refine sj_cI (rest := []) (fun _ _ _ e => sj_runV (n := 1) (As := [.int a1]) (rest := []) (sX5_eat l G a0 a1 h _ _ _ e) he12 rfl rfl rfl rfl q2977 q2979 qs51 q127 q2980 (by decide +kernel) rfl rfl ⟨Nat.le_of_ble_eq_true rfl, Nat.le_of_ble_eq_true rfl⟩ rfl (Nat.le_of_ble_eq_true rfl) dX5_eatAs_12) hf (fun r3 h c hf => ?_)
  exact sj_zret hf rfl rfl dX5_eatAs_15
/-! SofaDigModel.deeper(I)Z -/
abbrev cX5_deeper : ByteArray := prog_46_method_51_code
def yX5_deeper : MethodName := ⟨RX5, "deeper", "(I)Z"⟩
def dkwX5_deeper_1 : List UInt8 := [4, 96, 181, 1, 6, 4, 172]
abbrev dktX5_deeper_1 : List UInt8 := dkwX5_deeper_1 ++ []
def dkwX5_deeper_0 : List UInt8 := [42, 180, 1, 6, 16, 8, 159, 0, 11, 42, 27, 182, 1, 3, 154, 0, 5, 3, 172, 42, 89, 180, 1, 6]
abbrev dktX5_deeper_0 : List UInt8 := dkwX5_deeper_0 ++ dktX5_deeper_1
theorem dksX5_deeper_0 : cX5_deeper.data.toList.drop 0 = dktX5_deeper_0 := by decide +kernel
theorem dksX5_deeper_1 : cX5_deeper.data.toList.drop 24 = dktX5_deeper_1 := dk_seg dksX5_deeper_0 24 rfl rfl
theorem dX5_deeper_0 : decode cX5_deeper 0 = .ok (.aload_n 0, 1) := dk_42 (dk_at dksX5_deeper_0 0 rfl rfl)
theorem dX5_deeper_1 : decode cX5_deeper 1 = .ok (.getfield 262, 3) := dk_180 1 6 (dk_at dksX5_deeper_0 1 rfl rfl)
theorem dX5_deeper_4 : decode cX5_deeper 4 = .ok (.bipush 8, 2) := dk_16 8 (dk_at dksX5_deeper_0 4 rfl rfl)
theorem dX5_deeper_6 : decode cX5_deeper 6 = .ok (.if_icmp .eq 11, 3) := dk_159 0 11 (dk_at dksX5_deeper_0 6 rfl rfl)
theorem dX5_deeper_9 : decode cX5_deeper 9 = .ok (.aload_n 0, 1) := dk_42 (dk_at dksX5_deeper_0 9 rfl rfl)
theorem dX5_deeper_10 : decode cX5_deeper 10 = .ok (.iload_n 1, 1) := dk_27 (dk_at dksX5_deeper_0 10 rfl rfl)
theorem dX5_deeper_11 : decode cX5_deeper 11 = .ok (.invokevirtual 259, 3) := dk_182 1 3 (dk_at dksX5_deeper_0 11 rfl rfl)
theorem dX5_deeper_14 : decode cX5_deeper 14 = .ok (.ifCond .ne 5, 3) := dk_154 0 5 (dk_at dksX5_deeper_0 14 rfl rfl)
theorem dX5_deeper_17 : decode cX5_deeper 17 = .ok (.iconst 0, 1) := dk_3 (dk_at dksX5_deeper_0 17 rfl rfl)
theorem dX5_deeper_18 : decode cX5_deeper 18 = .ok (.ireturn, 1) := dk_172 (dk_at dksX5_deeper_0 18 rfl rfl)
theorem dX5_deeper_19 : decode cX5_deeper 19 = .ok (.aload_n 0, 1) := dk_42 (dk_at dksX5_deeper_0 19 rfl rfl)
theorem dX5_deeper_20 : decode cX5_deeper 20 = .ok (.dup, 1) := dk_89 (dk_at dksX5_deeper_0 20 rfl rfl)
theorem dX5_deeper_21 : decode cX5_deeper 21 = .ok (.getfield 262, 3) := dk_180 1 6 (dk_at dksX5_deeper_0 21 rfl rfl)
theorem dX5_deeper_24 : decode cX5_deeper 24 = .ok (.iconst 1, 1) := dk_4 (dk_at dksX5_deeper_1 0 rfl rfl)
theorem dX5_deeper_25 : decode cX5_deeper 25 = .ok (.iadd, 1) := dk_96 (dk_at dksX5_deeper_1 1 rfl rfl)
theorem dX5_deeper_26 : decode cX5_deeper 26 = .ok (.putfield 262, 3) := dk_181 1 6 (dk_at dksX5_deeper_1 2 rfl rfl)
theorem dX5_deeper_29 : decode cX5_deeper 29 = .ok (.iconst 1, 1) := dk_4 (dk_at dksX5_deeper_1 5 rfl rfl)
theorem dX5_deeper_30 : decode cX5_deeper 30 = .ok (.ireturn, 1) := dk_172 (dk_at dksX5_deeper_1 6 rfl rfl)
theorem fdX5_262_4 : sd_Fd "SofaDigModel" 262 4 11 := ⟨(RX5, TX5, 18), "SofaDigModel", rfl, by decide, rfl, in_X5, Or.inl rfl, Or.inl q2861⟩
theorem fpX5_262_4 (n d : String) : sd_Fp ⟨"SofaDigModel", n, d⟩ 262 4 11 .int := ⟨(RX5, TX5, 18), "SofaDigModel", tyX5, rfl, by decide, rfl, in_X5, Or.inl rfl, tyX5_ok, nmX5, rfl, Or.inl ⟨rfl, Or.inl q2861⟩⟩
abbrev mX5_deeper : sd_Y := (yX5_deeper, cX5_deeper, 2, some (.boolean), none)
def fX5_deeper (G : sd_G) (a0 : Nat) (a1 : Int32) : sd_M Int32 :=
  sd_bnd (sd_getI G 4 11 a0) fun v1 =>
  if v1 = 8 then (
    sd_ret 0)
  else (
    sd_bnd (sd_isC G 4 a0) fun _ =>
    sd_bnd (fX5_eat G a0 a1) fun r2 =>
    if r2 = 0 then (
      sd_ret 0)
    else (
      sd_bnd (sd_getI G 4 11 a0) fun v3 =>
      sd_bnd (sd_put 4 11 .int a0 (.int (v3 + 1))) fun _ =>
      sd_ret 1))
set_option maxHeartbeats 4000000 in
theorem sX5_deeper (l : Launch) (G : sd_G) (a0 : Nat) (a1 : Int32) (h : sd_H) (ρ : Int32) (cT : Nat × Nat) (h2 : sd_H) (hf : fX5_deeper G a0 a1 h = some (ρ, cT, h2)) : sd_Met mX5_deeper ((l, G), (1, 21), [.ref a0, .int a1], (sd_oI ρ, h2), cT) h := by
  refine sd_entry (plainFor_of_name rfl) rfl (Nat.le_of_ble_eq_true rfl) ?_
  show sd_J mX5_deeper ((l, G), (1, 21), [.ref a0, .int a1], (sd_oI ρ, h2), cT) 0 [(0, .ref a0), (1, .int a1)] [] h cT
  unfold fX5_deeper at hf
  refine sj_aload_n 0 dX5_deeper_0 rfl ?_
  refine sj_getI fdX5_262_4 hf dX5_deeper_1 (fun v1 hf => ?_)
  refine sj_bipush (v := 8) dX5_deeper_4 (by decide) ?_
  refine sj_iceq 17 hf dX5_deeper_6 (by decide) (fun g6 hf => ?_) (fun g6 hf => ?_)
  · refine sj_iconst (v := 0) dX5_deeper_17 (by decide) ?_
    exact sj_zretC (o := sd_oI) (ty := .boolean) rfl hf rfl rfl rfl dX5_deeper_18
  · refine sj_aload_n 0 dX5_deeper_9 rfl ?_
    refine sj_iload_n 1 dX5_deeper_10 rfl ?_
    obtain ⟨fs11, he11, hf⟩ := sd_isC_some hf
    refine sj_cI (rest := []) (fun _ _ _ e => sj_runV (n := 1) (As := [.int a1]) (rest := []) (sX5_eat l G a0 a1 h _ _ _ e) he11 rfl rfl rfl rfl q2977 q2979 qs51 q127 q2980 (by decide +kernel) rfl rfl ⟨Nat.le_of_ble_eq_true rfl, Nat.le_of_ble_eq_true rfl⟩ rfl (Nat.le_of_ble_eq_true rfl) dX5_deeper_11) hf (fun r2 h c hf => ?_)
    refine sj_ifne 19 hf dX5_deeper_14 (by decide) (fun g14 hf => ?_) (fun g14 hf => ?_)
    · refine sj_aload_n 0 dX5_deeper_19 rfl ?_
      refine sj_dup dX5_deeper_20 rfl ?_
      refine sj_getI fdX5_262_4 hf dX5_deeper_21 (fun v3 hf => ?_)
      refine sj_iconst (v := 1) dX5_deeper_24 (by decide) ?_
      refine sj_iadd dX5_deeper_25 ?_
      refine sj_put (fpX5_262_4 _ _) hf dX5_deeper_26 (fun h hf => ?_)
      refine sj_iconst (v := 1) dX5_deeper_29 (by decide) ?_
      exact sj_zretC (o := sd_oI) (ty := .boolean) rfl hf rfl rfl rfl dX5_deeper_30
    · refine sj_iconst (v := 0) dX5_deeper_17 (by decide) ?_
      exact sj_zretC (o := sd_oI) (ty := .boolean) rfl hf rfl rfl rfl dX5_deeper_18
/-! SofaDigModel.put(LSofaDigModel$Plan;II)V -/
abbrev cX5_put : ByteArray := prog_46_method_53_code
def yX5_put : MethodName := ⟨RX5, "put", "(LSofaDigModel$Plan;II)V"⟩
def dkwX5_put_1 : List UInt8 := [180, 1, 9, 4, 96, 181, 1, 9, 177]
abbrev dktX5_put_1 : List UInt8 := dkwX5_put_1 ++ []
def dkwX5_put_0 : List UInt8 := [43, 180, 0, 188, 43, 180, 1, 9, 28, 79, 43, 180, 0, 194, 43, 180, 1, 9, 29, 79, 43, 89]
abbrev dktX5_put_0 : List UInt8 := dkwX5_put_0 ++ dktX5_put_1
theorem dksX5_put_0 : cX5_put.data.toList.drop 0 = dktX5_put_0 := by decide +kernel
theorem dksX5_put_1 : cX5_put.data.toList.drop 22 = dktX5_put_1 := dk_seg dksX5_put_0 22 rfl rfl
theorem dX5_put_0 : decode cX5_put 0 = .ok (.aload_n 1, 1) := dk_43 (dk_at dksX5_put_0 0 rfl rfl)
theorem dX5_put_1 : decode cX5_put 1 = .ok (.getfield 188, 3) := dk_180 0 188 (dk_at dksX5_put_0 1 rfl rfl)
theorem dX5_put_4 : decode cX5_put 4 = .ok (.aload_n 1, 1) := dk_43 (dk_at dksX5_put_0 4 rfl rfl)
theorem dX5_put_5 : decode cX5_put 5 = .ok (.getfield 265, 3) := dk_180 1 9 (dk_at dksX5_put_0 5 rfl rfl)
theorem dX5_put_8 : decode cX5_put 8 = .ok (.iload_n 2, 1) := dk_28 (dk_at dksX5_put_0 8 rfl rfl)
theorem dX5_put_9 : decode cX5_put 9 = .ok (.iastore, 1) := dk_79 (dk_at dksX5_put_0 9 rfl rfl)
theorem dX5_put_10 : decode cX5_put 10 = .ok (.aload_n 1, 1) := dk_43 (dk_at dksX5_put_0 10 rfl rfl)
theorem dX5_put_11 : decode cX5_put 11 = .ok (.getfield 194, 3) := dk_180 0 194 (dk_at dksX5_put_0 11 rfl rfl)
theorem dX5_put_14 : decode cX5_put 14 = .ok (.aload_n 1, 1) := dk_43 (dk_at dksX5_put_0 14 rfl rfl)
theorem dX5_put_15 : decode cX5_put 15 = .ok (.getfield 265, 3) := dk_180 1 9 (dk_at dksX5_put_0 15 rfl rfl)
theorem dX5_put_18 : decode cX5_put 18 = .ok (.iload_n 3, 1) := dk_29 (dk_at dksX5_put_0 18 rfl rfl)
theorem dX5_put_19 : decode cX5_put 19 = .ok (.iastore, 1) := dk_79 (dk_at dksX5_put_0 19 rfl rfl)
theorem dX5_put_20 : decode cX5_put 20 = .ok (.aload_n 1, 1) := dk_43 (dk_at dksX5_put_0 20 rfl rfl)
theorem dX5_put_21 : decode cX5_put 21 = .ok (.dup, 1) := dk_89 (dk_at dksX5_put_0 21 rfl rfl)
theorem dX5_put_22 : decode cX5_put 22 = .ok (.getfield 265, 3) := dk_180 1 9 (dk_at dksX5_put_1 0 rfl rfl)
theorem dX5_put_25 : decode cX5_put 25 = .ok (.iconst 1, 1) := dk_4 (dk_at dksX5_put_1 3 rfl rfl)
theorem dX5_put_26 : decode cX5_put 26 = .ok (.iadd, 1) := dk_96 (dk_at dksX5_put_1 4 rfl rfl)
theorem dX5_put_27 : decode cX5_put 27 = .ok (.putfield 265, 3) := dk_181 1 9 (dk_at dksX5_put_1 5 rfl rfl)
theorem dX5_put_30 : decode cX5_put 30 = .ok (.return_, 1) := dk_177 (dk_at dksX5_put_1 8 rfl rfl)
theorem fdX5_188_5 : sd_Fd "SofaDigModel" 188 5 16 := ⟨(RX6, TX6, 19), "SofaDigModel$Plan", rfl, by decide, rfl, in_X6, Or.inl rfl, Or.inr ⟨_, q2801⟩⟩
theorem fdX5_265_5 : sd_Fd "SofaDigModel" 265 5 18 := ⟨(RX6, TX6, 19), "SofaDigModel$Plan", rfl, by decide, rfl, in_X6, Or.inl rfl, Or.inr ⟨_, q2804⟩⟩
theorem fdX5_194_5 : sd_Fd "SofaDigModel" 194 5 17 := ⟨(RX6, TX6, 19), "SofaDigModel$Plan", rfl, by decide, rfl, in_X6, Or.inl rfl, Or.inr ⟨_, q2803⟩⟩
theorem fpX5_265_5 (n d : String) : sd_Fp ⟨"SofaDigModel", n, d⟩ 265 5 18 .int := ⟨(RX6, TX6, 19), "SofaDigModel$Plan", tyX6, rfl, by decide, rfl, in_X6, Or.inl rfl, tyX6_ok, nmX6, rfl, Or.inl ⟨rfl, Or.inr ⟨_, q2804⟩⟩⟩
abbrev mX5_put : sd_Y := (yX5_put, cX5_put, 4, none, none)
def fX5_put (G : sd_G) (a0 : Nat) (a1 : Nat) (a2 : Int32) (a3 : Int32) : sd_M Unit :=
  sd_bnd (sd_getR G 5 16 a1) fun v1 =>
  sd_bnd (sd_getI G 5 18 a1) fun v2 =>
  sd_bnd (sd_astI 0 v1 v2 a2) fun _ =>
  sd_bnd (sd_getR G 5 17 a1) fun v3 =>
  sd_bnd (sd_getI G 5 18 a1) fun v4 =>
  sd_bnd (sd_astI 0 v3 v4 a3) fun _ =>
  sd_bnd (sd_getI G 5 18 a1) fun v5 =>
  sd_bnd (sd_put 5 18 .int a1 (.int (v5 + 1))) fun _ =>
  sd_ret ()
set_option maxHeartbeats 4000000 in
theorem sX5_put (l : Launch) (G : sd_G) (a0 : Nat) (a1 : Nat) (a2 : Int32) (a3 : Int32) (h : sd_H) (ρ : Unit) (cT : Nat × Nat) (h2 : sd_H) (hf : fX5_put G a0 a1 a2 a3 h = some (ρ, cT, h2)) : sd_Met mX5_put ((l, G), (0, 0), [.ref a0, .ref a1, .int a2, .int a3], (sd_oV ρ, h2), cT) h := by
  refine sd_entry (plainFor_of_name rfl) rfl (Nat.le_of_ble_eq_true rfl) ?_
  show sd_J mX5_put ((l, G), (0, 0), [.ref a0, .ref a1, .int a2, .int a3], (sd_oV ρ, h2), cT) 0 [(0, .ref a0), (1, .ref a1), (2, .int a2), (3, .int a3)] [] h cT
  unfold fX5_put at hf
  refine sj_aload_n 1 dX5_put_0 rfl ?_
  refine sj_getR fdX5_188_5 hf dX5_put_1 (fun v1 hf => ?_)
  refine sj_aload_n 1 dX5_put_4 rfl ?_
  refine sj_getI fdX5_265_5 hf dX5_put_5 (fun v2 hf => ?_)
  refine sj_iload_n 2 dX5_put_8 rfl ?_
  refine sj_iast hf dX5_put_9 (fun h hf => ?_)
  refine sj_aload_n 1 dX5_put_10 rfl ?_
  refine sj_getR fdX5_194_5 hf dX5_put_11 (fun v3 hf => ?_)
  refine sj_aload_n 1 dX5_put_14 rfl ?_
  refine sj_getI fdX5_265_5 hf dX5_put_15 (fun v4 hf => ?_)
  refine sj_iload_n 3 dX5_put_18 rfl ?_
  refine sj_iast hf dX5_put_19 (fun h hf => ?_)
  refine sj_aload_n 1 dX5_put_20 rfl ?_
  refine sj_dup dX5_put_21 rfl ?_
  refine sj_getI fdX5_265_5 hf dX5_put_22 (fun v5 hf => ?_)
  refine sj_iconst (v := 1) dX5_put_25 (by decide) ?_
  refine sj_iadd dX5_put_26 ?_
  refine sj_put (fpX5_265_5 _ _) hf dX5_put_27 (fun h hf => ?_)
  exact sj_vret (o := sd_oV) hf rfl rfl rfl dX5_put_30
/-! SofaDigModel.closes(I)Z -/
abbrev cX5_closes : ByteArray := prog_46_method_52_code
def yX5_closes : MethodName := ⟨RX5, "closes", "(I)Z"⟩
def dkwX5_closes_0 : List UInt8 := [42, 27, 182, 1, 3, 154, 0, 5, 3, 172, 42, 89, 180, 1, 6, 4, 100, 181, 1, 6, 4, 172]
abbrev dktX5_closes_0 : List UInt8 := dkwX5_closes_0 ++ []
theorem dksX5_closes_0 : cX5_closes.data.toList.drop 0 = dktX5_closes_0 := by decide +kernel
theorem dX5_closes_0 : decode cX5_closes 0 = .ok (.aload_n 0, 1) := dk_42 (dk_at dksX5_closes_0 0 rfl rfl)
theorem dX5_closes_1 : decode cX5_closes 1 = .ok (.iload_n 1, 1) := dk_27 (dk_at dksX5_closes_0 1 rfl rfl)
theorem dX5_closes_2 : decode cX5_closes 2 = .ok (.invokevirtual 259, 3) := dk_182 1 3 (dk_at dksX5_closes_0 2 rfl rfl)
theorem dX5_closes_5 : decode cX5_closes 5 = .ok (.ifCond .ne 5, 3) := dk_154 0 5 (dk_at dksX5_closes_0 5 rfl rfl)
theorem dX5_closes_8 : decode cX5_closes 8 = .ok (.iconst 0, 1) := dk_3 (dk_at dksX5_closes_0 8 rfl rfl)
theorem dX5_closes_9 : decode cX5_closes 9 = .ok (.ireturn, 1) := dk_172 (dk_at dksX5_closes_0 9 rfl rfl)
theorem dX5_closes_10 : decode cX5_closes 10 = .ok (.aload_n 0, 1) := dk_42 (dk_at dksX5_closes_0 10 rfl rfl)
theorem dX5_closes_11 : decode cX5_closes 11 = .ok (.dup, 1) := dk_89 (dk_at dksX5_closes_0 11 rfl rfl)
theorem dX5_closes_12 : decode cX5_closes 12 = .ok (.getfield 262, 3) := dk_180 1 6 (dk_at dksX5_closes_0 12 rfl rfl)
theorem dX5_closes_15 : decode cX5_closes 15 = .ok (.iconst 1, 1) := dk_4 (dk_at dksX5_closes_0 15 rfl rfl)
theorem dX5_closes_16 : decode cX5_closes 16 = .ok (.isub, 1) := dk_100 (dk_at dksX5_closes_0 16 rfl rfl)
theorem dX5_closes_17 : decode cX5_closes 17 = .ok (.putfield 262, 3) := dk_181 1 6 (dk_at dksX5_closes_0 17 rfl rfl)
theorem dX5_closes_20 : decode cX5_closes 20 = .ok (.iconst 1, 1) := dk_4 (dk_at dksX5_closes_0 20 rfl rfl)
theorem dX5_closes_21 : decode cX5_closes 21 = .ok (.ireturn, 1) := dk_172 (dk_at dksX5_closes_0 21 rfl rfl)
abbrev mX5_closes : sd_Y := (yX5_closes, cX5_closes, 2, some (.boolean), none)
def fX5_closes (G : sd_G) (a0 : Nat) (a1 : Int32) : sd_M Int32 :=
  sd_bnd (sd_isC G 4 a0) fun _ =>
  sd_bnd (fX5_eat G a0 a1) fun r1 =>
  if r1 = 0 then (
    sd_ret 0)
  else (
    sd_bnd (sd_getI G 4 11 a0) fun v2 =>
    sd_bnd (sd_put 4 11 .int a0 (.int (v2 - 1))) fun _ =>
    sd_ret 1)
set_option maxHeartbeats 4000000 in
theorem sX5_closes (l : Launch) (G : sd_G) (a0 : Nat) (a1 : Int32) (h : sd_H) (ρ : Int32) (cT : Nat × Nat) (h2 : sd_H) (hf : fX5_closes G a0 a1 h = some (ρ, cT, h2)) : sd_Met mX5_closes ((l, G), (1, 21), [.ref a0, .int a1], (sd_oI ρ, h2), cT) h := by
  refine sd_entry (plainFor_of_name rfl) rfl (Nat.le_of_ble_eq_true rfl) ?_
  show sd_J mX5_closes ((l, G), (1, 21), [.ref a0, .int a1], (sd_oI ρ, h2), cT) 0 [(0, .ref a0), (1, .int a1)] [] h cT
  unfold fX5_closes at hf
  refine sj_aload_n 0 dX5_closes_0 rfl ?_
  refine sj_iload_n 1 dX5_closes_1 rfl ?_
  obtain ⟨fs2, he2, hf⟩ := sd_isC_some hf
  refine sj_cI (rest := []) (fun _ _ _ e => sj_runV (n := 1) (As := [.int a1]) (rest := []) (sX5_eat l G a0 a1 h _ _ _ e) he2 rfl rfl rfl rfl q2977 q2979 qs51 q127 q2980 (by decide +kernel) rfl rfl ⟨Nat.le_of_ble_eq_true rfl, Nat.le_of_ble_eq_true rfl⟩ rfl (Nat.le_of_ble_eq_true rfl) dX5_closes_2) hf (fun r1 h c hf => ?_)
  refine sj_ifne 10 hf dX5_closes_5 (by decide) (fun g5 hf => ?_) (fun g5 hf => ?_)
  · refine sj_aload_n 0 dX5_closes_10 rfl ?_
    refine sj_dup dX5_closes_11 rfl ?_
    refine sj_getI fdX5_262_4 hf dX5_closes_12 (fun v2 hf => ?_)
    refine sj_iconst (v := 1) dX5_closes_15 (by decide) ?_
    refine sj_isub dX5_closes_16 ?_
    refine sj_put (fpX5_262_4 _ _) hf dX5_closes_17 (fun h hf => ?_)
    refine sj_iconst (v := 1) dX5_closes_20 (by decide) ?_
    exact sj_zretC (o := sd_oI) (ty := .boolean) rfl hf rfl rfl rfl dX5_closes_21
  · refine sj_iconst (v := 0) dX5_closes_8 (by decide) ?_
    exact sj_zretC (o := sd_oI) (ty := .boolean) rfl hf rfl rfl rfl dX5_closes_9
/-! SofaDigModel.isAbout(LSofaDigModel$Plan;I)Z -/
abbrev cX5_isAbout : ByteArray := prog_46_method_54_code
def yX5_isAbout : MethodName := ⟨RX5, "isAbout", "(LSofaDigModel$Plan;I)Z"⟩
def dkwX5_isAbout_1 : List UInt8 := [154, 0, 5, 3, 172, 42, 43, 28, 42, 180, 1, 0, 182, 1, 12, 42, 16, 30, 16, 12, 182, 1, 16, 172]
abbrev dktX5_isAbout_1 : List UInt8 := dkwX5_isAbout_1 ++ []
def dkwX5_isAbout_0 : List UInt8 := [42, 89, 180, 1, 0, 4, 96, 181, 1, 0, 28, 16, 22, 159, 0, 14, 42, 16, 10, 182, 1, 3]
abbrev dktX5_isAbout_0 : List UInt8 := dkwX5_isAbout_0 ++ dktX5_isAbout_1
theorem dksX5_isAbout_0 : cX5_isAbout.data.toList.drop 0 = dktX5_isAbout_0 := by decide +kernel
theorem dksX5_isAbout_1 : cX5_isAbout.data.toList.drop 22 = dktX5_isAbout_1 := dk_seg dksX5_isAbout_0 22 rfl rfl
theorem dX5_isAbout_0 : decode cX5_isAbout 0 = .ok (.aload_n 0, 1) := dk_42 (dk_at dksX5_isAbout_0 0 rfl rfl)
theorem dX5_isAbout_1 : decode cX5_isAbout 1 = .ok (.dup, 1) := dk_89 (dk_at dksX5_isAbout_0 1 rfl rfl)
theorem dX5_isAbout_2 : decode cX5_isAbout 2 = .ok (.getfield 256, 3) := dk_180 1 0 (dk_at dksX5_isAbout_0 2 rfl rfl)
theorem dX5_isAbout_5 : decode cX5_isAbout 5 = .ok (.iconst 1, 1) := dk_4 (dk_at dksX5_isAbout_0 5 rfl rfl)
theorem dX5_isAbout_6 : decode cX5_isAbout 6 = .ok (.iadd, 1) := dk_96 (dk_at dksX5_isAbout_0 6 rfl rfl)
theorem dX5_isAbout_7 : decode cX5_isAbout 7 = .ok (.putfield 256, 3) := dk_181 1 0 (dk_at dksX5_isAbout_0 7 rfl rfl)
theorem dX5_isAbout_10 : decode cX5_isAbout 10 = .ok (.iload_n 2, 1) := dk_28 (dk_at dksX5_isAbout_0 10 rfl rfl)
theorem dX5_isAbout_11 : decode cX5_isAbout 11 = .ok (.bipush 22, 2) := dk_16 22 (dk_at dksX5_isAbout_0 11 rfl rfl)
theorem dX5_isAbout_13 : decode cX5_isAbout 13 = .ok (.if_icmp .eq 14, 3) := dk_159 0 14 (dk_at dksX5_isAbout_0 13 rfl rfl)
theorem dX5_isAbout_16 : decode cX5_isAbout 16 = .ok (.aload_n 0, 1) := dk_42 (dk_at dksX5_isAbout_0 16 rfl rfl)
theorem dX5_isAbout_17 : decode cX5_isAbout 17 = .ok (.bipush 10, 2) := dk_16 10 (dk_at dksX5_isAbout_0 17 rfl rfl)
theorem dX5_isAbout_19 : decode cX5_isAbout 19 = .ok (.invokevirtual 259, 3) := dk_182 1 3 (dk_at dksX5_isAbout_0 19 rfl rfl)
theorem dX5_isAbout_22 : decode cX5_isAbout 22 = .ok (.ifCond .ne 5, 3) := dk_154 0 5 (dk_at dksX5_isAbout_1 0 rfl rfl)
theorem dX5_isAbout_25 : decode cX5_isAbout 25 = .ok (.iconst 0, 1) := dk_3 (dk_at dksX5_isAbout_1 3 rfl rfl)
theorem dX5_isAbout_26 : decode cX5_isAbout 26 = .ok (.ireturn, 1) := dk_172 (dk_at dksX5_isAbout_1 4 rfl rfl)
theorem dX5_isAbout_27 : decode cX5_isAbout 27 = .ok (.aload_n 0, 1) := dk_42 (dk_at dksX5_isAbout_1 5 rfl rfl)
theorem dX5_isAbout_28 : decode cX5_isAbout 28 = .ok (.aload_n 1, 1) := dk_43 (dk_at dksX5_isAbout_1 6 rfl rfl)
theorem dX5_isAbout_29 : decode cX5_isAbout 29 = .ok (.iload_n 2, 1) := dk_28 (dk_at dksX5_isAbout_1 7 rfl rfl)
theorem dX5_isAbout_30 : decode cX5_isAbout 30 = .ok (.aload_n 0, 1) := dk_42 (dk_at dksX5_isAbout_1 8 rfl rfl)
theorem dX5_isAbout_31 : decode cX5_isAbout 31 = .ok (.getfield 256, 3) := dk_180 1 0 (dk_at dksX5_isAbout_1 9 rfl rfl)
theorem dX5_isAbout_34 : decode cX5_isAbout 34 = .ok (.invokevirtual 268, 3) := dk_182 1 12 (dk_at dksX5_isAbout_1 12 rfl rfl)
theorem dX5_isAbout_37 : decode cX5_isAbout 37 = .ok (.aload_n 0, 1) := dk_42 (dk_at dksX5_isAbout_1 15 rfl rfl)
theorem dX5_isAbout_38 : decode cX5_isAbout 38 = .ok (.bipush 30, 2) := dk_16 30 (dk_at dksX5_isAbout_1 16 rfl rfl)
theorem dX5_isAbout_40 : decode cX5_isAbout 40 = .ok (.bipush 12, 2) := dk_16 12 (dk_at dksX5_isAbout_1 18 rfl rfl)
theorem dX5_isAbout_42 : decode cX5_isAbout 42 = .ok (.invokevirtual 272, 3) := dk_182 1 16 (dk_at dksX5_isAbout_1 20 rfl rfl)
theorem dX5_isAbout_45 : decode cX5_isAbout 45 = .ok (.ireturn, 1) := dk_172 (dk_at dksX5_isAbout_1 23 rfl rfl)
abbrev mX5_isAbout : sd_Y := (yX5_isAbout, cX5_isAbout, 3, some (.boolean), none)
def fX5_isAbout_b27 (G : sd_G) (w0 : Nat) (w1 : Nat) (w2 : Int32) : sd_M Int32 :=
  sd_bnd (sd_getI G 4 10 w0) fun v2 =>
  sd_bnd (sd_isC G 4 w0) fun _ =>
  sd_bnd (fX5_put G w0 w1 w2 v2) fun _ =>
  sd_bnd (sd_isC G 4 w0) fun _ =>
  sd_bnd (fX5_eatAs G w0 30 12) fun r3 =>
  sd_retN .boolean r3
set_option maxHeartbeats 4000000 in
theorem sX5_isAbout_b27 (l : Launch) (G : sd_G) (a0 : Nat) (a1 : Nat) (a2 : Int32) (ρ : Int32) (h2 : sd_H) (cT : Nat × Nat) (w0 : Nat) (w1 : Nat) (w2 : Int32) (h : sd_H) (c : Nat × Nat) (hf : fX5_isAbout_b27 G w0 w1 w2 h = some (ρ, c, h2)) : sd_J mX5_isAbout ((l, G), (2, 43), [.ref a0, .ref a1, .int a2], (sd_oI ρ, h2), cT) 27 [(0, .ref w0), (1, .ref w1), (2, .int w2)] [] h c := by
  unfold fX5_isAbout_b27 at hf
  refine sj_aload_n 0 dX5_isAbout_27 rfl ?_
  refine sj_aload_n 1 dX5_isAbout_28 rfl ?_
  refine sj_iload_n 2 dX5_isAbout_29 rfl ?_
  refine sj_aload_n 0 dX5_isAbout_30 rfl ?_
  refine sj_getI fdX5_256_4 hf dX5_isAbout_31 (fun v2 hf => ?_)
  obtain ⟨fs34, he34, hf⟩ := sd_isC_some hf
  refine sj_cV (rest := []) (fun _ _ _ e => sj_runV (n := 3) (As := [.ref w1, .int w2, .int v2]) (rest := []) (sX5_put l G w0 w1 w2 v2 h _ _ _ e) he34 rfl rfl rfl rfl q3014 q3016 qs60 q127 q3017 (by decide +kernel) rfl rfl ⟨Nat.le_of_ble_eq_true rfl, Nat.le_of_ble_eq_true rfl⟩ rfl (Nat.le_of_ble_eq_true rfl) dX5_isAbout_34) hf (fun h c hf => ?_)
  refine sj_aload_n 0 dX5_isAbout_37 rfl ?_
  refine sj_bipush (v := 30) dX5_isAbout_38 (by decide) ?_
  refine sj_bipush (v := 12) dX5_isAbout_40 (by decide) ?_
  obtain ⟨fs42, he42, hf⟩ := sd_isC_some hf
  refine sj_cI (rest := []) (fun _ _ _ e => sj_runV (n := 2) (As := [.int 30, .int 12]) (rest := []) (sX5_eatAs l G w0 30 12 h _ _ _ e) he42 rfl rfl rfl rfl q2981 q2983 qs52 q127 q2984 (by decide +kernel) rfl rfl ⟨Nat.le_of_ble_eq_true rfl, Nat.le_of_ble_eq_true rfl⟩ rfl (Nat.le_of_ble_eq_true rfl) dX5_isAbout_42) hf (fun r3 h c hf => ?_)
  exact sj_zret hf rfl rfl dX5_isAbout_45
def fX5_isAbout (G : sd_G) (a0 : Nat) (a1 : Nat) (a2 : Int32) : sd_M Int32 :=
  sd_bnd (sd_getI G 4 10 a0) fun v1 =>
  sd_bnd (sd_put 4 10 .int a0 (.int (v1 + 1))) fun _ =>
  if a2 = 22 then (
    fX5_isAbout_b27 G a0 a1 a2)
  else (
    sd_bnd (sd_isC G 4 a0) fun _ =>
    sd_bnd (fX5_eat G a0 10) fun r4 =>
    if r4 = 0 then (
      sd_ret 0)
    else (
      fX5_isAbout_b27 G a0 a1 a2))
set_option maxHeartbeats 4000000 in
theorem sX5_isAbout (l : Launch) (G : sd_G) (a0 : Nat) (a1 : Nat) (a2 : Int32) (h : sd_H) (ρ : Int32) (cT : Nat × Nat) (h2 : sd_H) (hf : fX5_isAbout G a0 a1 a2 h = some (ρ, cT, h2)) : sd_Met mX5_isAbout ((l, G), (2, 43), [.ref a0, .ref a1, .int a2], (sd_oI ρ, h2), cT) h := by
  refine sd_entry (plainFor_of_name rfl) rfl (Nat.le_of_ble_eq_true rfl) ?_
  show sd_J mX5_isAbout ((l, G), (2, 43), [.ref a0, .ref a1, .int a2], (sd_oI ρ, h2), cT) 0 [(0, .ref a0), (1, .ref a1), (2, .int a2)] [] h cT
  unfold fX5_isAbout at hf
  refine sj_aload_n 0 dX5_isAbout_0 rfl ?_
  refine sj_dup dX5_isAbout_1 rfl ?_
  refine sj_getI fdX5_256_4 hf dX5_isAbout_2 (fun v1 hf => ?_)
  refine sj_iconst (v := 1) dX5_isAbout_5 (by decide) ?_
  refine sj_iadd dX5_isAbout_6 ?_
  refine sj_put (fpX5_256_4 _ _) hf dX5_isAbout_7 (fun h hf => ?_)
  refine sj_iload_n 2 dX5_isAbout_10 rfl ?_
  refine sj_bipush (v := 22) dX5_isAbout_11 (by decide) ?_
  refine sj_iceq 27 hf dX5_isAbout_13 (by decide) (fun g13 hf => ?_) (fun g13 hf => ?_)
  · exact sj_loc [0, 1, 2] rfl (sX5_isAbout_b27 l G a0 a1 a2 ρ h2 cT a0 a1 a2 _ _ hf)
  · refine sj_aload_n 0 dX5_isAbout_16 rfl ?_
    refine sj_bipush (v := 10) dX5_isAbout_17 (by decide) ?_
    obtain ⟨fs19, he19, hf⟩ := sd_isC_some hf
    refine sj_cI (rest := []) (fun _ _ _ e => sj_runV (n := 1) (As := [.int 10]) (rest := []) (sX5_eat l G a0 10 h _ _ _ e) he19 rfl rfl rfl rfl q2977 q2979 qs51 q127 q2980 (by decide +kernel) rfl rfl ⟨Nat.le_of_ble_eq_true rfl, Nat.le_of_ble_eq_true rfl⟩ rfl (Nat.le_of_ble_eq_true rfl) dX5_isAbout_19) hf (fun r4 h c hf => ?_)
    refine sj_ifne 27 hf dX5_isAbout_22 (by decide) (fun g22 hf => ?_) (fun g22 hf => ?_)
    · exact sj_loc [0, 1, 2] rfl (sX5_isAbout_b27 l G a0 a1 a2 ρ h2 cT a0 a1 a2 _ _ hf)
    · refine sj_iconst (v := 0) dX5_isAbout_25 (by decide) ?_
      exact sj_zretC (o := sd_oI) (ty := .boolean) rfl hf rfl rfl rfl dX5_isAbout_26
