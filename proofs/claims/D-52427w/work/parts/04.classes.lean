/-! names and field tables of the classes (claim/names/), and the two lists that the abstract heap counts by -/
set_option maxRecDepth 100000
def RX0 : String := "SofaDigLaw"
def RX1 : String := "SofaDig"
def TX1 : u_T := fun k => match k with
  | 0 => ("SofaDig", "tape", "LSofaDig$Tape;", true)
  | 1 => ("SofaDig", "errorAt", "I", false)
  | 2 => ("SofaDig", "sofa", "LSofaDig$Sofa;", false)
  | _ => ("SofaDig", "ahead", "LSofaDig$Sofa;", true)
def tyX1 : Nat → FieldType := fun k => match k with
  | 0 => .object "SofaDig$Tape"
  | 1 => .int
  | 2 => .object "SofaDig$Sofa"
  | _ => .object "SofaDig$Sofa"
abbrev wsX10 : List Cond := u_ws RX1 TX1 4
theorem nmX1 : ∀ a, a < 4 → ∀ b, b < 4 → a ≠ b → (TX1 a).2.1 ≠ (TX1 b).2.1 := by decide +kernel
theorem tyX1_ok : ∀ k, k < 4 → parseFieldDescriptor (TX1 k).2.2.1 = some (tyX1 k) := by decide +kernel
theorem in_X1 : ∀ w ∈ wsX10, w ∈ lw_all := lw_in wsX10 [443, 445, 447, 449] (by decide +kernel) (by decide +kernel)
def RX2 : String := "SofaDig$Tape"
def TX2 : u_T := fun k => match k with
  | 0 => ("SofaDig$Tape", "bytes", "[B", true)
  | _ => ("SofaDig$Tape", "size", "I", false)
def tyX2 : Nat → FieldType := fun k => match k with
  | 0 => .array .byte
  | _ => .int
abbrev wsX20 : List Cond := u_ws RX2 TX2 2
theorem nmX2 : ∀ a, a < 2 → ∀ b, b < 2 → a ≠ b → (TX2 a).2.1 ≠ (TX2 b).2.1 := by decide +kernel
theorem tyX2_ok : ∀ k, k < 2 → parseFieldDescriptor (TX2 k).2.2.1 = some (tyX2 k) := by decide +kernel
theorem in_X2 : ∀ w ∈ wsX20, w ∈ lw_all := lw_in wsX20 [200, 202] (by decide +kernel) (by decide +kernel)
def RX3 : String := "SofaDig$Sofa"
def TX3 : u_T := fun k => match k with
  | 0 => ("SofaDig$Sofa", "strata", "I", false)
  | 1 => ("SofaDig$Sofa", "seats", "I", false)
  | 2 => ("SofaDig$Sofa", "stacks", "Ljava/util/ArrayList;", true)
  | 3 => ("SofaDig$Sofa", "empires", "Ljava/util/ArrayList;", true)
  | 4 => ("SofaDig$Sofa", "finds", "Ljava/util/ArrayList;", true)
  | 5 => ("SofaDig$Sofa", "orders", "Ljava/util/ArrayList;", true)
  | 6 => ("SofaDig$Sofa", "ends", "[I", true)
  | 7 => ("SofaDig$Sofa", "propped", "I", false)
  | 8 => ("SofaDig$Sofa", "day", "I", false)
  | 9 => ("SofaDig$Sofa", "done", "I", false)
  | 10 => ("SofaDig$Sofa", "dug", "I", false)
  | _ => ("SofaDig$Sofa", "slides", "I", false)
def tyX3 : Nat → FieldType := fun k => match k with
  | 0 => .int
  | 1 => .int
  | 2 => .object "java/util/ArrayList"
  | 3 => .object "java/util/ArrayList"
  | 4 => .object "java/util/ArrayList"
  | 5 => .object "java/util/ArrayList"
  | 6 => .array .int
  | 7 => .int
  | 8 => .int
  | 9 => .int
  | 10 => .int
  | _ => .int
abbrev wsX30 : List Cond := u_ws RX3 TX3 12
theorem nmX3 : ∀ a, a < 12 → ∀ b, b < 12 → a ≠ b → (TX3 a).2.1 ≠ (TX3 b).2.1 := by decide +kernel
theorem tyX3_ok : ∀ k, k < 12 → parseFieldDescriptor (TX3 k).2.2.1 = some (tyX3 k) := by decide +kernel
theorem in_X3 : ∀ w ∈ wsX30, w ∈ lw_all := lw_in wsX30 [275, 277, 279, 281, 283, 285, 287, 289, 291, 293, 295, 297] (by decide +kernel) (by decide +kernel)
def RJ0 : String := "java/util/AbstractCollection"
def RJ1 : String := "java/util/AbstractList"
def RJ2 : String := "java/util/ArrayList"
def TJ2 : u_T := fun k => match k with
  | 0 => ("java/util/AbstractList", "modCount", "I", false)
  | 1 => ("java/util/ArrayList", "elementData", "[Ljava/lang/Object;", false)
  | _ => ("java/util/ArrayList", "size", "I", false)
def tyJ2 : Nat → FieldType := fun k => match k with
  | 0 => .int
  | 1 => .array (.object "java/lang/Object")
  | _ => .int
abbrev wsJ20 : List Cond := u_ws RJ2 TJ2 3
theorem nmJ2 : ∀ a, a < 3 → ∀ b, b < 3 → a ≠ b → (TJ2 a).2.1 ≠ (TJ2 b).2.1 := by decide +kernel
theorem tyJ2_ok : ∀ k, k < 3 → parseFieldDescriptor (TJ2 k).2.2.1 = some (tyJ2 k) := by decide +kernel
theorem in_J2 : ∀ w ∈ wsJ20, w ∈ lw_all := lw_in wsJ20 [238, 234, 236] (by decide +kernel) (by decide +kernel)
def RX4 : String := "SofaDig$Cushion"
def TX4 : u_T := fun k => match k with
  | 0 => ("SofaDig$Cushion", "stratum", "I", true)
  | 1 => ("SofaDig$Cushion", "find", "I", false)
  | 2 => ("SofaDig$Cushion", "hasSpring", "Z", false)
  | _ => ("SofaDig$Cushion", "isLoose", "Z", false)
def tyX4 : Nat → FieldType := fun k => match k with
  | 0 => .int
  | 1 => .int
  | 2 => .boolean
  | _ => .boolean
abbrev wsX40 : List Cond := u_ws RX4 TX4 4
theorem nmX4 : ∀ a, a < 4 → ∀ b, b < 4 → a ≠ b → (TX4 a).2.1 ≠ (TX4 b).2.1 := by decide +kernel
theorem tyX4_ok : ∀ k, k < 4 → parseFieldDescriptor (TX4 k).2.2.1 = some (tyX4 k) := by decide +kernel
theorem in_X4 : ∀ w ∈ wsX40, w ∈ lw_all := lw_in wsX40 [328, 330, 332, 334] (by decide +kernel) (by decide +kernel)
def RJ3 : String := "jdk/internal/util/ArraysSupport"
def RJ4 : String := "java/lang/Math"
def RJ5 : String := "java/util/Arrays"
def RX5 : String := "SofaDigModel"
def TX5 : u_T := fun k => match k with
  | 0 => ("SofaDigModel", "thrown", "I", false)
  | 1 => ("SofaDigModel", "tape", "[I", true)
  | 2 => ("SofaDigModel", "size", "I", false)
  | 3 => ("SofaDigModel", "errorAt", "I", false)
  | 4 => ("SofaDigModel", "plan", "LSofaDigModel$Plan;", false)
  | 5 => ("SofaDigModel", "kind", "[I", true)
  | 6 => ("SofaDigModel", "from", "[I", true)
  | 7 => ("SofaDigModel", "means", "[I", true)
  | 8 => ("SofaDigModel", "value", "[J", true)
  | 9 => ("SofaDigModel", "who", "[I", true)
  | 10 => ("SofaDigModel", "token", "I", false)
  | 11 => ("SofaDigModel", "depth", "I", false)
  | 12 => ("SofaDigModel", "ordersRead", "I", false)
  | 13 => ("SofaDigModel", "isSpring", "Z", false)
  | 14 => ("SofaDigModel", "itsSeat", "I", false)
  | 15 => ("SofaDigModel", "now", "[I", true)
  | 16 => ("SofaDigModel", "kept", "[I", true)
  | _ => ("SofaDigModel", "stack", "[I", true)
def tyX5 : Nat → FieldType := fun k => match k with
  | 0 => .int
  | 1 => .array .int
  | 2 => .int
  | 3 => .int
  | 4 => .object "SofaDigModel$Plan"
  | 5 => .array .int
  | 6 => .array .int
  | 7 => .array .int
  | 8 => .array .long
  | 9 => .array .int
  | 10 => .int
  | 11 => .int
  | 12 => .int
  | 13 => .boolean
  | 14 => .int
  | 15 => .array .int
  | 16 => .array .int
  | _ => .array .int
abbrev wsX50 : List Cond := u_ws RX5 TX5 18
theorem nmX5 : ∀ a, a < 18 → ∀ b, b < 18 → a ≠ b → (TX5 a).2.1 ≠ (TX5 b).2.1 := by decide +kernel
theorem tyX5_ok : ∀ k, k < 18 → parseFieldDescriptor (TX5 k).2.2.1 = some (tyX5 k) := by decide +kernel
theorem in_X5 : ∀ w ∈ wsX50, w ∈ lw_all := lw_in wsX50 [2868, 2870, 2872, 2874, 2876, 2878, 2880, 2882, 2884, 2886, 2888, 2890, 2892, 2894, 2896, 2898, 2900, 2902] (by decide +kernel) (by decide +kernel)
def RX6 : String := "SofaDigModel$Plan"
def TX6 : u_T := fun k => match k with
  | 0 => ("SofaDigModel$Plan", "seats", "I", false)
  | 1 => ("SofaDigModel$Plan", "strata", "I", false)
  | 2 => ("SofaDigModel$Plan", "empires", "I", false)
  | 3 => ("SofaDigModel$Plan", "empire", "[J", true)
  | 4 => ("SofaDigModel$Plan", "begin", "[I", true)
  | 5 => ("SofaDigModel$Plan", "end", "[I", true)
  | 6 => ("SofaDigModel$Plan", "finds", "I", false)
  | 7 => ("SofaDigModel$Plan", "isCoin", "[Z", true)
  | 8 => ("SofaDigModel$Plan", "cushion", "[I", true)
  | 9 => ("SofaDigModel$Plan", "what", "[I", true)
  | 10 => ("SofaDigModel$Plan", "find", "[I", true)
  | 11 => ("SofaDigModel$Plan", "spring", "[Z", true)
  | 12 => ("SofaDigModel$Plan", "orders", "I", false)
  | 13 => ("SofaDigModel$Plan", "does", "[I", true)
  | 14 => ("SofaDigModel$Plan", "begins", "[I", true)
  | 15 => ("SofaDigModel$Plan", "ends", "[I", true)
  | 16 => ("SofaDigModel$Plan", "order", "[I", true)
  | 17 => ("SofaDigModel$Plan", "with", "[I", true)
  | _ => ("SofaDigModel$Plan", "many", "I", false)
def tyX6 : Nat → FieldType := fun k => match k with
  | 0 => .int
  | 1 => .int
  | 2 => .int
  | 3 => .array .long
  | 4 => .array .int
  | 5 => .array .int
  | 6 => .int
  | 7 => .array .boolean
  | 8 => .array .int
  | 9 => .array .int
  | 10 => .array .int
  | 11 => .array .boolean
  | 12 => .int
  | 13 => .array .int
  | 14 => .array .int
  | 15 => .array .int
  | 16 => .array .int
  | 17 => .array .int
  | _ => .int
abbrev wsX60 : List Cond := u_ws RX6 TX6 19
theorem nmX6 : ∀ a, a < 19 → ∀ b, b < 19 → a ≠ b → (TX6 a).2.1 ≠ (TX6 b).2.1 := by decide +kernel
theorem tyX6_ok : ∀ k, k < 19 → parseFieldDescriptor (TX6 k).2.2.1 = some (tyX6 k) := by decide +kernel
theorem in_X6 : ∀ w ∈ wsX60, w ∈ lw_all := lw_in wsX60 [2805, 2807, 2809, 2811, 2813, 2815, 2817, 2819, 2821, 2823, 2825, 2827, 2829, 2831, 2833, 2835, 2837, 2839, 2841] (by decide +kernel) (by decide +kernel)
def RJ6 : String := "java/lang/Throwable"
def TJ6 : u_T := fun k => match k with
  | 0 => ("java/lang/Throwable", "cause", "Ljava/lang/Throwable;", false)
  | 1 => ("java/lang/Throwable", "stackTrace", "[Ljava/lang/StackTraceElement;", false)
  | 2 => ("java/lang/Throwable", "suppressedExceptions", "Ljava/util/List;", false)
  | 3 => ("java/lang/Throwable", "detailMessage", "Ljava/lang/String;", false)
  | _ => ("java/lang/Throwable", "backtrace", "Ljava/lang/Object;", false)
def tyJ6 : Nat → FieldType := fun k => match k with
  | 0 => .object "java/lang/Throwable"
  | 1 => .array (.object "java/lang/StackTraceElement")
  | 2 => .object "java/util/List"
  | 3 => .object "java/lang/String"
  | _ => .object "java/lang/Object"
abbrev wsJ60 : List Cond := u_ws RJ6 TJ6 5
theorem nmJ6 : ∀ a, a < 5 → ∀ b, b < 5 → a ≠ b → (TJ6 a).2.1 ≠ (TJ6 b).2.1 := by decide +kernel
theorem tyJ6_ok : ∀ k, k < 5 → parseFieldDescriptor (TJ6 k).2.2.1 = some (tyJ6 k) := by decide +kernel
theorem in_J6 : ∀ w ∈ wsJ60, w ∈ lw_all := lw_in wsJ60 [687, 689, 691, 693, 695] (by decide +kernel) (by decide +kernel)
def RJ7 : String := "java/lang/Exception"
def RJ8 : String := "java/lang/RuntimeException"
def RJ9 : String := "java/lang/IllegalStateException"
def TJ9 : u_T := fun k => match k with
  | 0 => ("java/lang/Throwable", "cause", "Ljava/lang/Throwable;", false)
  | 1 => ("java/lang/Throwable", "stackTrace", "[Ljava/lang/StackTraceElement;", false)
  | 2 => ("java/lang/Throwable", "suppressedExceptions", "Ljava/util/List;", false)
  | 3 => ("java/lang/Throwable", "detailMessage", "Ljava/lang/String;", false)
  | 4 => ("java/lang/Throwable", "backtrace", "Ljava/lang/Object;", false)
  | _ => ("java/lang/Throwable", "depth", "I", false)
def tyJ9 : Nat → FieldType := fun k => match k with
  | 0 => .object "java/lang/Throwable"
  | 1 => .array (.object "java/lang/StackTraceElement")
  | 2 => .object "java/util/List"
  | 3 => .object "java/lang/String"
  | 4 => .object "java/lang/Object"
  | _ => .int
abbrev wsJ90 : List Cond := u_ws RJ9 TJ9 6
theorem nmJ9 : ∀ a, a < 6 → ∀ b, b < 6 → a ≠ b → (TJ9 a).2.1 ≠ (TJ9 b).2.1 := by decide +kernel
theorem tyJ9_ok : ∀ k, k < 6 → parseFieldDescriptor (TJ9 k).2.2.1 = some (tyJ9 k) := by decide +kernel
theorem in_J9 : ∀ w ∈ wsJ90, w ∈ lw_all := lw_in wsJ90 [2327, 2328, 2329, 2330, 2331, 2339] (by decide +kernel) (by decide +kernel)
def RJ10 : String := "java/lang/IllegalArgumentException"
def TJ10 : u_T := fun k => match k with
  | 0 => ("java/lang/Throwable", "cause", "Ljava/lang/Throwable;", false)
  | 1 => ("java/lang/Throwable", "stackTrace", "[Ljava/lang/StackTraceElement;", false)
  | 2 => ("java/lang/Throwable", "suppressedExceptions", "Ljava/util/List;", false)
  | 3 => ("java/lang/Throwable", "detailMessage", "Ljava/lang/String;", false)
  | 4 => ("java/lang/Throwable", "backtrace", "Ljava/lang/Object;", false)
  | _ => ("java/lang/Throwable", "depth", "I", false)
def tyJ10 : Nat → FieldType := fun k => match k with
  | 0 => .object "java/lang/Throwable"
  | 1 => .array (.object "java/lang/StackTraceElement")
  | 2 => .object "java/util/List"
  | 3 => .object "java/lang/String"
  | 4 => .object "java/lang/Object"
  | _ => .int
abbrev wsJ100 : List Cond := u_ws RJ10 TJ10 6
theorem nmJ10 : ∀ a, a < 6 → ∀ b, b < 6 → a ≠ b → (TJ10 a).2.1 ≠ (TJ10 b).2.1 := by decide +kernel
theorem tyJ10_ok : ∀ k, k < 6 → parseFieldDescriptor (TJ10 k).2.2.1 = some (tyJ10 k) := by decide +kernel
theorem in_J10 : ∀ w ∈ wsJ100, w ∈ lw_all := lw_in wsJ100 [686, 688, 690, 692, 694, 815] (by decide +kernel) (by decide +kernel)
def RX7 : String := "SofaDig$Reader"
def TX7 : u_T := fun k => match k with
  | 0 => ("SofaDig$Reader", "tokens", "Ljava/util/List;", true)
  | 1 => ("SofaDig$Reader", "at", "I", false)
  | 2 => ("SofaDig$Reader", "depth", "I", false)
  | 3 => ("SofaDig$Reader", "isSecond", "Z", false)
  | 4 => ("SofaDig$Reader", "sofa", "LSofaDig$Sofa;", false)
  | _ => ("SofaDig$Reader", "empires", "Ljava/util/HashMap;", true)
def tyX7 : Nat → FieldType := fun k => match k with
  | 0 => .object "java/util/List"
  | 1 => .int
  | 2 => .int
  | 3 => .boolean
  | 4 => .object "SofaDig$Sofa"
  | _ => .object "java/util/HashMap"
abbrev wsX70 : List Cond := u_ws RX7 TX7 6
theorem nmX7 : ∀ a, a < 6 → ∀ b, b < 6 → a ≠ b → (TX7 a).2.1 ≠ (TX7 b).2.1 := by decide +kernel
theorem tyX7_ok : ∀ k, k < 6 → parseFieldDescriptor (TX7 k).2.2.1 = some (tyX7 k) := by decide +kernel
theorem in_X7 : ∀ w ∈ wsX70, w ∈ lw_all := lw_in wsX70 [965, 967, 969, 971, 973, 975] (by decide +kernel) (by decide +kernel)
def RX8 : String := "SofaDig$Scanner"
def TX8 : u_T := fun k => match k with
  | 0 => ("SofaDig$Scanner", "tape", "LSofaDig$Tape;", true)
  | _ => ("SofaDig$Scanner", "tokens", "Ljava/util/ArrayList;", true)
def tyX8 : Nat → FieldType := fun k => match k with
  | 0 => .object "SofaDig$Tape"
  | _ => .object "java/util/ArrayList"
abbrev wsX80 : List Cond := u_ws RX8 TX8 2
theorem nmX8 : ∀ a, a < 2 → ∀ b, b < 2 → a ≠ b → (TX8 a).2.1 ≠ (TX8 b).2.1 := by decide +kernel
theorem tyX8_ok : ∀ k, k < 2 → parseFieldDescriptor (TX8 k).2.2.1 = some (tyX8 k) := by decide +kernel
theorem in_X8 : ∀ w ∈ wsX80, w ∈ lw_all := lw_in wsX80 [469, 471] (by decide +kernel) (by decide +kernel)
def RX9 : String := "SofaDig$Token"
def TX9 : u_T := fun k => match k with
  | 0 => ("SofaDig$Token", "sort", "LSofaDig$Sort;", true)
  | 1 => ("SofaDig$Token", "text", "Ljava/lang/String;", true)
  | _ => ("SofaDig$Token", "at", "I", true)
def tyX9 : Nat → FieldType := fun k => match k with
  | 0 => .object "SofaDig$Sort"
  | 1 => .object "java/lang/String"
  | _ => .int
abbrev wsX90 : List Cond := u_ws RX9 TX9 3
theorem nmX9 : ∀ a, a < 3 → ∀ b, b < 3 → a ≠ b → (TX9 a).2.1 ≠ (TX9 b).2.1 := by decide +kernel
theorem tyX9_ok : ∀ k, k < 3 → parseFieldDescriptor (TX9 k).2.2.1 = some (tyX9 k) := by decide +kernel
theorem in_X9 : ∀ w ∈ wsX90, w ∈ lw_all := lw_in wsX90 [510, 512, 514] (by decide +kernel) (by decide +kernel)
def RJ11 : String := "java/lang/Enum"
def RJ12 : String := "java/lang/AbstractStringBuilder"
def RJ13 : String := "java/lang/StringBuilder"
def TJ13 : u_T := fun k => match k with
  | 0 => ("java/lang/AbstractStringBuilder", "value", "[B", false)
  | 1 => ("java/lang/AbstractStringBuilder", "coder", "B", false)
  | 2 => ("java/lang/AbstractStringBuilder", "maybeLatin1", "Z", false)
  | _ => ("java/lang/AbstractStringBuilder", "count", "I", false)
def tyJ13 : Nat → FieldType := fun k => match k with
  | 0 => .array .byte
  | 1 => .byte
  | 2 => .boolean
  | _ => .int
abbrev wsJ130 : List Cond := u_ws RJ13 TJ13 4
theorem nmJ13 : ∀ a, a < 4 → ∀ b, b < 4 → a ≠ b → (TJ13 a).2.1 ≠ (TJ13 b).2.1 := by decide +kernel
theorem tyJ13_ok : ∀ k, k < 4 → parseFieldDescriptor (TJ13 k).2.2.1 = some (tyJ13 k) := by decide +kernel
theorem in_J13 : ∀ w ∈ wsJ130, w ∈ lw_all := lw_in wsJ130 [549, 551, 553, 555] (by decide +kernel) (by decide +kernel)
def RJ14 : String := "java/lang/String"
def TJ14 : u_T := fun k => match k with
  | 0 => ("java/lang/String", "value", "[B", true)
  | 1 => ("java/lang/String", "coder", "B", true)
  | 2 => ("java/lang/String", "hash", "I", false)
  | _ => ("java/lang/String", "hashIsZero", "Z", false)
def tyJ14 : Nat → FieldType := fun k => match k with
  | 0 => .array .byte
  | 1 => .byte
  | 2 => .int
  | _ => .boolean
abbrev wsJ140 : List Cond := u_ws RJ14 TJ14 4
theorem nmJ14 : ∀ a, a < 4 → ∀ b, b < 4 → a ≠ b → (TJ14 a).2.1 ≠ (TJ14 b).2.1 := by decide +kernel
theorem tyJ14_ok : ∀ k, k < 4 → parseFieldDescriptor (TJ14 k).2.2.1 = some (tyJ14 k) := by decide +kernel
theorem in_J14 : ∀ w ∈ wsJ140, w ∈ lw_all := lw_in wsJ140 [836, 838, 840, 842] (by decide +kernel) (by decide +kernel)
def RJ15 : String := "java/lang/StringUTF16"
def RJ16 : String := "java/lang/StringLatin1"
def RJ17 : String := "jdk/internal/util/Preconditions"
def RJ18 : String := "java/lang/Number"
def RJ19 : String := "java/lang/Integer"
def TJ19 : u_T := fun k => match k with
  | _ => ("java/lang/Integer", "value", "I", true)
def tyJ19 : Nat → FieldType := fun k => match k with
  | _ => .int
abbrev wsJ190 : List Cond := u_ws RJ19 TJ19 1
theorem nmJ19 : ∀ a, a < 1 → ∀ b, b < 1 → a ≠ b → (TJ19 a).2.1 ≠ (TJ19 b).2.1 := by decide +kernel
theorem tyJ19_ok : ∀ k, k < 1 → parseFieldDescriptor (TJ19 k).2.2.1 = some (tyJ19 k) := by decide +kernel
theorem in_J19 : ∀ w ∈ wsJ190, w ∈ lw_all := lw_in wsJ190 [1659] (by decide +kernel) (by decide +kernel)
def RJ20 : String := "java/lang/Character"
def RJ21 : String := "java/util/AbstractMap"
def RJ22 : String := "java/util/HashMap"
def TJ22 : u_T := fun k => match k with
  | 0 => ("java/util/AbstractMap", "keySet", "Ljava/util/Set;", false)
  | 1 => ("java/util/AbstractMap", "values", "Ljava/util/Collection;", false)
  | 2 => ("java/util/HashMap", "table", "[Ljava/util/HashMap$Node;", false)
  | 3 => ("java/util/HashMap", "entrySet", "Ljava/util/Set;", false)
  | 4 => ("java/util/HashMap", "size", "I", false)
  | 5 => ("java/util/HashMap", "modCount", "I", false)
  | 6 => ("java/util/HashMap", "threshold", "I", false)
  | _ => ("java/util/HashMap", "loadFactor", "F", true)
def tyJ22 : Nat → FieldType := fun k => match k with
  | 0 => .object "java/util/Set"
  | 1 => .object "java/util/Collection"
  | 2 => .array (.object "java/util/HashMap$Node")
  | 3 => .object "java/util/Set"
  | 4 => .int
  | 5 => .int
  | 6 => .int
  | _ => .float
abbrev wsJ220 : List Cond := u_ws RJ22 TJ22 8
theorem nmJ22 : ∀ a, a < 8 → ∀ b, b < 8 → a ≠ b → (TJ22 a).2.1 ≠ (TJ22 b).2.1 := by decide +kernel
theorem tyJ22_ok : ∀ k, k < 8 → parseFieldDescriptor (TJ22 k).2.2.1 = some (tyJ22 k) := by decide +kernel
theorem in_J22 : ∀ w ∈ wsJ220, w ∈ lw_all := lw_in wsJ220 [954, 956, 942, 944, 946, 948, 950, 952] (by decide +kernel) (by decide +kernel)
def RJ23 : String := "java/util/Objects"
def RX10 : String := "SofaDig$Fault"
def TX10 : u_T := fun k => match k with
  | 0 => ("java/lang/Throwable", "cause", "Ljava/lang/Throwable;", false)
  | 1 => ("java/lang/Throwable", "stackTrace", "[Ljava/lang/StackTraceElement;", false)
  | 2 => ("java/lang/Throwable", "suppressedExceptions", "Ljava/util/List;", false)
  | 3 => ("java/lang/Throwable", "detailMessage", "Ljava/lang/String;", false)
  | 4 => ("java/lang/Throwable", "backtrace", "Ljava/lang/Object;", false)
  | 5 => ("java/lang/Throwable", "depth", "I", false)
  | 6 => ("SofaDig$Fault", "error", "I", true)
  | _ => ("SofaDig$Fault", "at", "I", true)
def tyX10 : Nat → FieldType := fun k => match k with
  | 0 => .object "java/lang/Throwable"
  | 1 => .array (.object "java/lang/StackTraceElement")
  | 2 => .object "java/util/List"
  | 3 => .object "java/lang/String"
  | 4 => .object "java/lang/Object"
  | 5 => .int
  | 6 => .int
  | _ => .int
abbrev wsX100 : List Cond := u_ws RX10 TX10 8
theorem nmX10 : ∀ a, a < 8 → ∀ b, b < 8 → a ≠ b → (TX10 a).2.1 ≠ (TX10 b).2.1 := by decide +kernel
theorem tyX10_ok : ∀ k, k < 8 → parseFieldDescriptor (TX10 k).2.2.1 = some (tyX10 k) := by decide +kernel
theorem in_X10 : ∀ w ∈ wsX100, w ∈ lw_all := lw_in wsX100 [1038, 1039, 1040, 1041, 1042, 1058, 1054, 1056] (by decide +kernel) (by decide +kernel)
def RJ24 : String := "jdk/internal/misc/Unsafe"
def RJ25 : String := "java/lang/Long"
def RX11 : String := "SofaDig$Empire"
def TX11 : u_T := fun k => match k with
  | 0 => ("SofaDig$Empire", "from", "I", true)
  | _ => ("SofaDig$Empire", "to", "I", true)
def tyX11 : Nat → FieldType := fun k => match k with
  | 0 => .int
  | _ => .int
abbrev wsX110 : List Cond := u_ws RX11 TX11 2
theorem nmX11 : ∀ a, a < 2 → ∀ b, b < 2 → a ≠ b → (TX11 a).2.1 ≠ (TX11 b).2.1 := by decide +kernel
theorem tyX11_ok : ∀ k, k < 2 → parseFieldDescriptor (TX11 k).2.2.1 = some (tyX11 k) := by decide +kernel
theorem in_X11 : ∀ w ∈ wsX110, w ∈ lw_all := lw_in wsX110 [1633, 1635] (by decide +kernel) (by decide +kernel)
def RJ26 : String := "java/util/HashMap$Node"
def TJ26 : u_T := fun k => match k with
  | 0 => ("java/util/HashMap$Node", "hash", "I", true)
  | 1 => ("java/util/HashMap$Node", "key", "Ljava/lang/Object;", true)
  | 2 => ("java/util/HashMap$Node", "value", "Ljava/lang/Object;", false)
  | _ => ("java/util/HashMap$Node", "next", "Ljava/util/HashMap$Node;", false)
def tyJ26 : Nat → FieldType := fun k => match k with
  | 0 => .int
  | 1 => .object "java/lang/Object"
  | 2 => .object "java/lang/Object"
  | _ => .object "java/util/HashMap$Node"
abbrev wsJ260 : List Cond := u_ws RJ26 TJ26 4
theorem nmJ26 : ∀ a, a < 4 → ∀ b, b < 4 → a ≠ b → (TJ26 a).2.1 ≠ (TJ26 b).2.1 := by decide +kernel
theorem tyJ26_ok : ∀ k, k < 4 → parseFieldDescriptor (TJ26 k).2.2.1 = some (tyJ26 k) := by decide +kernel
theorem in_J26 : ∀ w ∈ wsJ260, w ∈ lw_all := lw_in wsJ260 [1713, 1715, 1717, 1719] (by decide +kernel) (by decide +kernel)
def RJ27 : String := "java/util/LinkedHashMap$Entry"
def RJ28 : String := "java/util/HashMap$TreeNode"
def TJ28 : u_T := fun k => match k with
  | 0 => ("java/util/LinkedHashMap$Entry", "before", "Ljava/util/LinkedHashMap$Entry;", false)
  | 1 => ("java/util/LinkedHashMap$Entry", "after", "Ljava/util/LinkedHashMap$Entry;", false)
  | 2 => ("java/util/HashMap$Node", "hash", "I", true)
  | 3 => ("java/util/HashMap$Node", "key", "Ljava/lang/Object;", true)
  | 4 => ("java/util/HashMap$Node", "value", "Ljava/lang/Object;", false)
  | 5 => ("java/util/HashMap$Node", "next", "Ljava/util/HashMap$Node;", false)
  | 6 => ("java/util/HashMap$TreeNode", "parent", "Ljava/util/HashMap$TreeNode;", false)
  | 7 => ("java/util/HashMap$TreeNode", "left", "Ljava/util/HashMap$TreeNode;", false)
  | 8 => ("java/util/HashMap$TreeNode", "right", "Ljava/util/HashMap$TreeNode;", false)
  | 9 => ("java/util/HashMap$TreeNode", "prev", "Ljava/util/HashMap$TreeNode;", false)
  | _ => ("java/util/HashMap$TreeNode", "red", "Z", false)
def tyJ28 : Nat → FieldType := fun k => match k with
  | 0 => .object "java/util/LinkedHashMap$Entry"
  | 1 => .object "java/util/LinkedHashMap$Entry"
  | 2 => .int
  | 3 => .object "java/lang/Object"
  | 4 => .object "java/lang/Object"
  | 5 => .object "java/util/HashMap$Node"
  | 6 => .object "java/util/HashMap$TreeNode"
  | 7 => .object "java/util/HashMap$TreeNode"
  | 8 => .object "java/util/HashMap$TreeNode"
  | 9 => .object "java/util/HashMap$TreeNode"
  | _ => .boolean
abbrev wsJ280 : List Cond := u_ws RJ28 TJ28 11
theorem nmJ28 : ∀ a, a < 11 → ∀ b, b < 11 → a ≠ b → (TJ28 a).2.1 ≠ (TJ28 b).2.1 := by decide +kernel
theorem tyJ28_ok : ∀ k, k < 11 → parseFieldDescriptor (TJ28 k).2.2.1 = some (tyJ28 k) := by decide +kernel
theorem in_J28 : ∀ w ∈ wsJ280, w ∈ lw_all := lw_in wsJ280 [1776, 1778, 1780, 1781, 1782, 1783, 1766, 1768, 1770, 1772, 1774] (by decide +kernel) (by decide +kernel)
def RX12 : String := "SofaDig$Find"
def TX12 : u_T := fun k => match k with
  | 0 => ("SofaDig$Find", "isCoin", "Z", true)
  | 1 => ("SofaDig$Find", "told", "I", true)
  | _ => ("SofaDig$Find", "stratum", "I", true)
def tyX12 : Nat → FieldType := fun k => match k with
  | 0 => .boolean
  | 1 => .int
  | _ => .int
abbrev wsX120 : List Cond := u_ws RX12 TX12 3
theorem nmX12 : ∀ a, a < 3 → ∀ b, b < 3 → a ≠ b → (TX12 a).2.1 ≠ (TX12 b).2.1 := by decide +kernel
theorem tyX12_ok : ∀ k, k < 3 → parseFieldDescriptor (TX12 k).2.2.1 = some (tyX12 k) := by decide +kernel
theorem in_X12 : ∀ w ∈ wsX120, w ∈ lw_all := lw_in wsX120 [1845, 1847, 1849] (by decide +kernel) (by decide +kernel)
def RX13 : String := "SofaDig$Sum"
def RX14 : String := "SofaDig$Plain"
def TX14 : u_T := fun k => match k with
  | _ => ("SofaDig$Plain", "number", "I", true)
def tyX14 : Nat → FieldType := fun k => match k with
  | _ => .int
abbrev wsX140 : List Cond := u_ws RX14 TX14 1
theorem nmX14 : ∀ a, a < 1 → ∀ b, b < 1 → a ≠ b → (TX14 a).2.1 ≠ (TX14 b).2.1 := by decide +kernel
theorem tyX14_ok : ∀ k, k < 1 → parseFieldDescriptor (TX14 k).2.2.1 = some (tyX14 k) := by decide +kernel
theorem in_X14 : ∀ w ∈ wsX140, w ∈ lw_all := lw_in wsX140 [1886] (by decide +kernel) (by decide +kernel)
def RX15 : String := "SofaDig$Asked"
def TX15 : u_T := fun k => match k with
  | 0 => ("SofaDig$Asked", "what", "LSofaDig$What;", true)
  | _ => ("SofaDig$Asked", "which", "I", true)
def tyX15 : Nat → FieldType := fun k => match k with
  | 0 => .object "SofaDig$What"
  | _ => .int
abbrev wsX150 : List Cond := u_ws RX15 TX15 2
theorem nmX15 : ∀ a, a < 2 → ∀ b, b < 2 → a ≠ b → (TX15 a).2.1 ≠ (TX15 b).2.1 := by decide +kernel
theorem tyX15_ok : ∀ k, k < 2 → parseFieldDescriptor (TX15 k).2.2.1 = some (tyX15 k) := by decide +kernel
theorem in_X15 : ∀ w ∈ wsX150, w ∈ lw_all := lw_in wsX150 [1905, 1907] (by decide +kernel) (by decide +kernel)
def RX16 : String := "SofaDig$Height"
def TX16 : u_T := fun k => match k with
  | _ => ("SofaDig$Height", "seat", "LSofaDig$Sum;", true)
def tyX16 : Nat → FieldType := fun k => match k with
  | _ => .object "SofaDig$Sum"
abbrev wsX160 : List Cond := u_ws RX16 TX16 1
theorem nmX16 : ∀ a, a < 1 → ∀ b, b < 1 → a ≠ b → (TX16 a).2.1 ≠ (TX16 b).2.1 := by decide +kernel
theorem tyX16_ok : ∀ k, k < 1 → parseFieldDescriptor (TX16 k).2.2.1 = some (tyX16 k) := by decide +kernel
theorem in_X16 : ∀ w ∈ wsX160, w ∈ lw_all := lw_in wsX160 [1928] (by decide +kernel) (by decide +kernel)
def RX17 : String := "SofaDig$Turned"
def TX17 : u_T := fun k => match k with
  | _ => ("SofaDig$Turned", "sum", "LSofaDig$Sum;", true)
def tyX17 : Nat → FieldType := fun k => match k with
  | _ => .object "SofaDig$Sum"
abbrev wsX170 : List Cond := u_ws RX17 TX17 1
theorem nmX17 : ∀ a, a < 1 → ∀ b, b < 1 → a ≠ b → (TX17 a).2.1 ≠ (TX17 b).2.1 := by decide +kernel
theorem tyX17_ok : ∀ k, k < 1 → parseFieldDescriptor (TX17 k).2.2.1 = some (tyX17 k) := by decide +kernel
theorem in_X17 : ∀ w ∈ wsX170, w ∈ lw_all := lw_in wsX170 [1939] (by decide +kernel) (by decide +kernel)
def RX18 : String := "SofaDig$Joined"
def TX18 : u_T := fun k => match k with
  | 0 => ("SofaDig$Joined", "sign", "LSofaDig$Sign;", true)
  | 1 => ("SofaDig$Joined", "left", "LSofaDig$Sum;", true)
  | _ => ("SofaDig$Joined", "right", "LSofaDig$Sum;", true)
def tyX18 : Nat → FieldType := fun k => match k with
  | 0 => .object "SofaDig$Sign"
  | 1 => .object "SofaDig$Sum"
  | _ => .object "SofaDig$Sum"
abbrev wsX180 : List Cond := u_ws RX18 TX18 3
theorem nmX18 : ∀ a, a < 3 → ∀ b, b < 3 → a ≠ b → (TX18 a).2.1 ≠ (TX18 b).2.1 := by decide +kernel
theorem tyX18_ok : ∀ k, k < 3 → parseFieldDescriptor (TX18 k).2.2.1 = some (tyX18 k) := by decide +kernel
theorem in_X18 : ∀ w ∈ wsX180, w ∈ lw_all := lw_in wsX180 [1955, 1957, 1959] (by decide +kernel) (by decide +kernel)
def RX19 : String := "SofaDig$Order"
def TX19 : u_T := fun k => match k with
  | 0 => ("SofaDig$Order", "craft", "LSofaDig$Craft;", true)
  | 1 => ("SofaDig$Order", "seat", "LSofaDig$Sum;", true)
  | _ => ("SofaDig$Order", "test", "LSofaDig$Test;", true)
def tyX19 : Nat → FieldType := fun k => match k with
  | 0 => .object "SofaDig$Craft"
  | 1 => .object "SofaDig$Sum"
  | _ => .object "SofaDig$Test"
abbrev wsX190 : List Cond := u_ws RX19 TX19 3
theorem nmX19 : ∀ a, a < 3 → ∀ b, b < 3 → a ≠ b → (TX19 a).2.1 ≠ (TX19 b).2.1 := by decide +kernel
theorem tyX19_ok : ∀ k, k < 3 → parseFieldDescriptor (TX19 k).2.2.1 = some (tyX19 k) := by decide +kernel
theorem in_X19 : ∀ w ∈ wsX190, w ∈ lw_all := lw_in wsX190 [2081, 2083, 2085] (by decide +kernel) (by decide +kernel)
def RX20 : String := "SofaDig$Several"
def TX20 : u_T := fun k => match k with
  | 0 => ("SofaDig$Several", "isAll", "Z", true)
  | _ => ("SofaDig$Several", "tests", "Ljava/util/ArrayList;", true)
def tyX20 : Nat → FieldType := fun k => match k with
  | 0 => .boolean
  | _ => .object "java/util/ArrayList"
abbrev wsX200 : List Cond := u_ws RX20 TX20 2
theorem nmX20 : ∀ a, a < 2 → ∀ b, b < 2 → a ≠ b → (TX20 a).2.1 ≠ (TX20 b).2.1 := by decide +kernel
theorem tyX20_ok : ∀ k, k < 2 → parseFieldDescriptor (TX20 k).2.2.1 = some (tyX20 k) := by decide +kernel
theorem in_X20 : ∀ w ∈ wsX200, w ∈ lw_all := lw_in wsX200 [1991, 1993] (by decide +kernel) (by decide +kernel)
def RX21 : String := "SofaDig$Denied"
def TX21 : u_T := fun k => match k with
  | _ => ("SofaDig$Denied", "test", "LSofaDig$Test;", true)
def tyX21 : Nat → FieldType := fun k => match k with
  | _ => .object "SofaDig$Test"
abbrev wsX210 : List Cond := u_ws RX21 TX21 1
theorem nmX21 : ∀ a, a < 1 → ∀ b, b < 1 → a ≠ b → (TX21 a).2.1 ≠ (TX21 b).2.1 := by decide +kernel
theorem tyX21_ok : ∀ k, k < 1 → parseFieldDescriptor (TX21 k).2.2.1 = some (tyX21 k) := by decide +kernel
theorem in_X21 : ∀ w ∈ wsX210, w ∈ lw_all := lw_in wsX210 [2012] (by decide +kernel) (by decide +kernel)
def RX22 : String := "SofaDig$Seen"
def TX22 : u_T := fun k => match k with
  | _ => ("SofaDig$Seen", "empire", "I", true)
def tyX22 : Nat → FieldType := fun k => match k with
  | _ => .int
abbrev wsX220 : List Cond := u_ws RX22 TX22 1
theorem nmX22 : ∀ a, a < 1 → ∀ b, b < 1 → a ≠ b → (TX22 a).2.1 ≠ (TX22 b).2.1 := by decide +kernel
theorem tyX22_ok : ∀ k, k < 1 → parseFieldDescriptor (TX22 k).2.2.1 = some (tyX22 k) := by decide +kernel
theorem in_X22 : ∀ w ∈ wsX220, w ∈ lw_all := lw_in wsX220 [2025] (by decide +kernel) (by decide +kernel)
def RX23 : String := "SofaDig$Sure"
def TX23 : u_T := fun k => match k with
  | _ => ("SofaDig$Sure", "find", "LSofaDig$Sum;", true)
def tyX23 : Nat → FieldType := fun k => match k with
  | _ => .object "SofaDig$Sum"
abbrev wsX230 : List Cond := u_ws RX23 TX23 1
theorem nmX23 : ∀ a, a < 1 → ∀ b, b < 1 → a ≠ b → (TX23 a).2.1 ≠ (TX23 b).2.1 := by decide +kernel
theorem tyX23_ok : ∀ k, k < 1 → parseFieldDescriptor (TX23 k).2.2.1 = some (tyX23 k) := by decide +kernel
theorem in_X23 : ∀ w ∈ wsX230, w ∈ lw_all := lw_in wsX230 [2036] (by decide +kernel) (by decide +kernel)
def RX24 : String := "SofaDig$Compared"
def TX24 : u_T := fun k => match k with
  | 0 => ("SofaDig$Compared", "sign", "Ljava/lang/String;", true)
  | 1 => ("SofaDig$Compared", "left", "LSofaDig$Sum;", true)
  | _ => ("SofaDig$Compared", "right", "LSofaDig$Sum;", true)
def tyX24 : Nat → FieldType := fun k => match k with
  | 0 => .object "java/lang/String"
  | 1 => .object "SofaDig$Sum"
  | _ => .object "SofaDig$Sum"
abbrev wsX240 : List Cond := u_ws RX24 TX24 3
theorem nmX24 : ∀ a, a < 3 → ∀ b, b < 3 → a ≠ b → (TX24 a).2.1 ≠ (TX24 b).2.1 := by decide +kernel
theorem tyX24_ok : ∀ k, k < 3 → parseFieldDescriptor (TX24 k).2.2.1 = some (tyX24 k) := by decide +kernel
theorem in_X24 : ∀ w ∈ wsX240, w ∈ lw_all := lw_in wsX240 [2052, 2054, 2056] (by decide +kernel) (by decide +kernel)
def RX25 : String := "SofaDig$Test"
def RX26 : String := "SofaDig$Test$1"
def RJ29 : String := "java/lang/IndexOutOfBoundsException"
def TJ29 : u_T := fun k => match k with
  | 0 => ("java/lang/Throwable", "cause", "Ljava/lang/Throwable;", false)
  | 1 => ("java/lang/Throwable", "stackTrace", "[Ljava/lang/StackTraceElement;", false)
  | 2 => ("java/lang/Throwable", "suppressedExceptions", "Ljava/util/List;", false)
  | 3 => ("java/lang/Throwable", "detailMessage", "Ljava/lang/String;", false)
  | 4 => ("java/lang/Throwable", "backtrace", "Ljava/lang/Object;", false)
  | _ => ("java/lang/Throwable", "depth", "I", false)
def tyJ29 : Nat → FieldType := fun k => match k with
  | 0 => .object "java/lang/Throwable"
  | 1 => .array (.object "java/lang/StackTraceElement")
  | 2 => .object "java/util/List"
  | 3 => .object "java/lang/String"
  | 4 => .object "java/lang/Object"
  | _ => .int
abbrev wsJ290 : List Cond := u_ws RJ29 TJ29 6
theorem nmJ29 : ∀ a, a < 6 → ∀ b, b < 6 → a ≠ b → (TJ29 a).2.1 ≠ (TJ29 b).2.1 := by decide +kernel
theorem tyJ29_ok : ∀ k, k < 6 → parseFieldDescriptor (TJ29 k).2.2.1 = some (tyJ29 k) := by decide +kernel
theorem in_J29 : ∀ w ∈ wsJ290, w ∈ lw_all := lw_in wsJ290 [2401, 2402, 2403, 2404, 2405, 2410] (by decide +kernel) (by decide +kernel)
def RJ30 : String := "java/lang/ArrayIndexOutOfBoundsException"
def TJ30 : u_T := fun k => match k with
  | 0 => ("java/lang/Throwable", "backtrace", "Ljava/lang/Object;", false)
  | 1 => ("java/lang/Throwable", "detailMessage", "Ljava/lang/String;", false)
  | 2 => ("java/lang/Throwable", "cause", "Ljava/lang/Throwable;", false)
  | 3 => ("java/lang/Throwable", "stackTrace", "[Ljava/lang/StackTraceElement;", false)
  | 4 => ("java/lang/Throwable", "depth", "I", false)
  | _ => ("java/lang/Throwable", "suppressedExceptions", "Ljava/util/List;", false)
def tyJ30 : Nat → FieldType := fun k => match k with
  | 0 => .object "java/lang/Object"
  | 1 => .object "java/lang/String"
  | 2 => .object "java/lang/Throwable"
  | 3 => .array (.object "java/lang/StackTraceElement")
  | 4 => .int
  | _ => .object "java/util/List"
abbrev wsJ300 : List Cond := u_ws RJ30 TJ30 6
theorem nmJ30 : ∀ a, a < 6 → ∀ b, b < 6 → a ≠ b → (TJ30 a).2.1 ≠ (TJ30 b).2.1 := by decide +kernel
theorem tyJ30_ok : ∀ k, k < 6 → parseFieldDescriptor (TJ30 k).2.2.1 = some (tyJ30 k) := by decide +kernel
theorem in_J30 : ∀ w ∈ wsJ300, w ∈ lw_all := lw_in wsJ300 [2375, 2376, 2377, 2378, 2379, 2380] (by decide +kernel) (by decide +kernel)
def RJ31 : String := "java/util/ArrayList$Itr"
def TJ31 : u_T := fun k => match k with
  | 0 => ("java/util/ArrayList$Itr", "cursor", "I", false)
  | 1 => ("java/util/ArrayList$Itr", "lastRet", "I", false)
  | 2 => ("java/util/ArrayList$Itr", "expectedModCount", "I", false)
  | _ => ("java/util/ArrayList$Itr", "this$0", "Ljava/util/ArrayList;", true)
def tyJ31 : Nat → FieldType := fun k => match k with
  | 0 => .int
  | 1 => .int
  | 2 => .int
  | _ => .object "java/util/ArrayList"
abbrev wsJ310 : List Cond := u_ws RJ31 TJ31 4
theorem nmJ31 : ∀ a, a < 4 → ∀ b, b < 4 → a ≠ b → (TJ31 a).2.1 ≠ (TJ31 b).2.1 := by decide +kernel
theorem tyJ31_ok : ∀ k, k < 4 → parseFieldDescriptor (TJ31 k).2.2.1 = some (tyJ31 k) := by decide +kernel
theorem in_J31 : ∀ w ∈ wsJ310, w ∈ lw_all := lw_in wsJ310 [2181, 2183, 2185, 2187] (by decide +kernel) (by decide +kernel)
def RJ32 : String := "java/lang/Object"
def RX27 : String := "SofaDig$What$5"
def RX28 : String := "SofaDig$What$6"
def RX29 : String := "SofaDig$What$1"
def RX30 : String := "SofaDig$What$3"
def RX31 : String := "SofaDig$Craft$1"
def RX32 : String := "SofaDig$Craft$2"
def RX33 : String := "SofaDig$Craft$3"
def RX34 : String := "SofaDig$Sign$1"
def RX35 : String := "SofaDig$Sign$2"
def RX36 : String := "SofaDig$Sign$3"
def RX37 : String := "SofaDig$Sign$4"
def RX38 : String := "SofaDig$Sign$5"
def RX39 : String := "SofaDig$Sign$6"
def RX40 : String := "SofaDig$What$2"
def RX41 : String := "SofaDig$What$4"
def RJ33 : String := "java/lang/System$2"
def TZ0 : u_T := fun _ => ("", "", "", false)
def RZ0 : String := "SofaDig$Sort"
def RZ1 : String := "SofaDig$Kind"
def TZ1 : u_T := fun k => match k with
  | 0 => ("SofaDig$Fault", "error", "I", true)
  | _ => ("SofaDig$Fault", "at", "I", true)
def tyZ1 : Nat → FieldType := fun k => match k with
  | 0 => .int
  | _ => .int
theorem nmZ1 : ∀ a, a < 2 → ∀ b, b < 2 → a ≠ b → (TZ1 a).2.1 ≠ (TZ1 b).2.1 := by decide +kernel
theorem tyZ1_ok : ∀ k, k < 2 → parseFieldDescriptor (TZ1 k).2.2.1 = some (tyZ1 k) := by decide +kernel
theorem in_Z1 : ∀ w ∈ u_ws RX10 TZ1 2, w ∈ lw_all := lw_in (u_ws RX10 TZ1 2) [1054, 1056] (by decide +kernel) (by decide +kernel)
def TZ2 : u_T := fun k => match k with
  | 0 => ("java/lang/Throwable", "cause", "Ljava/lang/Throwable;", false)
  | 1 => ("java/lang/Throwable", "stackTrace", "[Ljava/lang/StackTraceElement;", false)
  | 2 => ("java/lang/Throwable", "suppressedExceptions", "Ljava/util/List;", false)
  | 3 => ("java/lang/Throwable", "backtrace", "Ljava/lang/Object;", false)
  | 4 => ("SofaDig$Fault", "error", "I", true)
  | _ => ("SofaDig$Fault", "at", "I", true)
def tyZ2 : Nat → FieldType := fun k => match k with
  | 0 => .object "java/lang/Throwable"
  | 1 => .array (.object "java/lang/StackTraceElement")
  | 2 => .object "java/util/List"
  | 3 => .object "java/lang/Object"
  | 4 => .int
  | _ => .int
theorem nmZ2 : ∀ a, a < 6 → ∀ b, b < 6 → a ≠ b → (TZ2 a).2.1 ≠ (TZ2 b).2.1 := by decide +kernel
theorem tyZ2_ok : ∀ k, k < 6 → parseFieldDescriptor (TZ2 k).2.2.1 = some (tyZ2 k) := by decide +kernel
theorem in_Z2 : ∀ w ∈ u_ws RX10 TZ2 6, w ∈ lw_all := lw_in (u_ws RX10 TZ2 6) [1038, 1039, 1040, 1042, 1054, 1056] (by decide +kernel) (by decide +kernel)
abbrev sd_cl : List vw_C := [(RX1, TX1, 4), (RX2, TX2, 2), (RX3, TX3, 12), (RX4, TX4, 4), (RX5, TX5, 18), (RX6, TX6, 19), (RX7, TX7, 6), (RX8, TX8, 2), (RX9, TX9, 3), (RX10, TZ1, 2), (RX11, TX11, 2), (RX12, TX12, 3), (RX14, TX14, 1), (RX15, TX15, 2), (RX16, TX16, 1), (RX17, TX17, 1), (RX18, TX18, 3), (RX19, TX19, 3), (RX20, TX20, 2), (RX21, TX21, 1), (RX22, TX22, 1), (RX23, TX23, 1), (RX24, TX24, 3), (RX26, TZ0, 0), (RX29, TZ0, 0), (RX40, TZ0, 0), (RX30, TZ0, 0), (RX41, TZ0, 0), (RX27, TZ0, 0), (RX28, TZ0, 0), (RX31, TZ0, 0), (RX32, TZ0, 0), (RX33, TZ0, 0), (RX34, TZ0, 0), (RX35, TZ0, 0), (RX36, TZ0, 0), (RX37, TZ0, 0), (RX38, TZ0, 0), (RX39, TZ0, 0), (RZ0, TZ0, 0), (RZ1, TZ0, 0), (RJ2, TJ2, 3), (RJ31, TJ31, 4), (RJ22, TJ22, 8), (RJ26, TJ26, 4), (RJ14, TJ14, 4), (RJ13, TJ13, 4), (RJ19, TJ19, 1), (RJ9, TZ0, 0), (RJ10, TZ0, 0), (RJ29, TZ0, 0), (RX10, TZ2, 6)]
abbrev sd_ty : List FieldType := [.int, .long, .byte, .boolean, .object "java/lang/Object", .object "java/util/HashMap$Node", .object "java/lang/String", .object "SofaDig$Craft", .object "SofaDig$What", .object "java/lang/Integer", .int]
