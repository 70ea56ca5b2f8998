/-! WHAT IS KNOWN OF THE TABLES all through a run, beside the words of lw_all -/
set_option maxRecDepth 100000
/-- static fields: an int, an address by its number, or a nullable one by its number -/
def sd_sts : List (String × String × String × (Int32 ⊕ Nat ⊕ Nat)) := [("java/util/ArrayList", "DEFAULTCAPACITY_EMPTY_ELEMENTDATA", "[Ljava/lang/Object;", .inr (.inl 0)),
  ("SofaDig$Sort", "BAD", "LSofaDig$Sort;", .inr (.inl 1)),
  ("java/lang/String", "COMPACT_STRINGS", "Z", .inl 1),
  ("jdk/internal/util/Preconditions", "SIOOBE_FORMATTER", "Ljava/util/function/BiFunction;", .inr (.inr 0)),
  ("java/lang/StringUTF16", "$assertionsDisabled", "Z", .inl 1),
  ("java/lang/StringUTF16", "HI_BYTE_SHIFT", "I", .inl 0),
  ("java/lang/StringUTF16", "LO_BYTE_SHIFT", "I", .inl 8),
  ("java/lang/Throwable", "UNASSIGNED_STACK", "[Ljava/lang/StackTraceElement;", .inr (.inr 1)),
  ("java/lang/Throwable", "SUPPRESSED_SENTINEL", "Ljava/util/List;", .inr (.inr 2)),
  ("SofaDig$Scanner", "KEYS", "[Ljava/lang/String;", .inr (.inl 2)),
  ("SofaDig$Sort", "KEY", "LSofaDig$Sort;", .inr (.inl 3)),
  ("SofaDig$Sort", "NAME", "LSofaDig$Sort;", .inr (.inl 4)),
  ("SofaDig$Sort", "NUMBER", "LSofaDig$Sort;", .inr (.inl 5)),
  ("SofaDig$Sort", "SYMBOL", "LSofaDig$Sort;", .inr (.inl 6)),
  ("SofaDig$Sort", "END", "LSofaDig$Sort;", .inr (.inl 7)),
  ("jdk/internal/misc/Unsafe", "ARRAY_BYTE_BASE_OFFSET", "I", .inl 16),
  ("jdk/internal/util/ArraysSupport", "LOG2_ARRAY_BYTE_INDEX_SCALE", "I", .inl 0),
  ("jdk/internal/util/ArraysSupport", "LOG2_ARRAY_LONG_INDEX_SCALE", "I", .inl 3),
  ("jdk/internal/misc/UnsafeConstants", "BIG_ENDIAN", "Z", .inl 0),
  ("jdk/internal/util/ArraysSupport", "BIG_ENDIAN", "Z", .inl 0),
  ("jdk/internal/util/ArraysSupport", "LOG2_BYTE_BIT_SIZE", "I", .inl 3),
  ("jdk/internal/util/ArraysSupport", "LOG2_ARRAY_INT_INDEX_SCALE", "I", .inl 2),
  ("java/lang/Integer$IntegerCache", "high", "I", .inl 127),
  ("java/lang/Integer$IntegerCache", "cache", "[Ljava/lang/Integer;", .inr (.inl 8)),
  ("java/util/HashMap$TreeNode", "$assertionsDisabled", "Z", .inl 1),
  ("SofaDig$Craft", "ALL", "[LSofaDig$Craft;", .inr (.inl 9)),
  ("SofaDig$What", "ALL", "[LSofaDig$What;", .inr (.inl 10)),
  ("SofaDig$Kind", "NOTHING", "LSofaDig$Kind;", .inr (.inl 11)),
  ("SofaDig$Sign", "LEAST", "LSofaDig$Sign;", .inr (.inl 12)),
  ("SofaDig$Sign", "MOST_OF", "LSofaDig$Sign;", .inr (.inl 13)),
  ("SofaDig$Sign", "TIMES", "LSofaDig$Sign;", .inr (.inl 14)),
  ("SofaDig$Sign", "PARTED", "LSofaDig$Sign;", .inr (.inl 15)),
  ("SofaDig$Sign", "PLUS", "LSofaDig$Sign;", .inr (.inl 16)),
  ("SofaDig$Sign", "MINUS", "LSofaDig$Sign;", .inr (.inl 17)),
  ("SofaDigModel", "WORDS", "[Ljava/lang/String;", .inr (.inl 18)),
  ("SofaDig$Craft", "DIG", "LSofaDig$Craft;", .inr (.inl 19)),
  ("SofaDig$Craft", "PROP", "LSofaDig$Craft;", .inr (.inl 20)),
  ("SofaDig$Craft", "FREE", "LSofaDig$Craft;", .inr (.inl 21)),
  ("SofaDig$What", "DAY", "LSofaDig$What;", .inr (.inl 22)),
  ("SofaDig$What", "FOUND", "LSofaDig$What;", .inr (.inl 23)),
  ("SofaDig$What", "SLIDES", "LSofaDig$What;", .inr (.inl 24)),
  ("SofaDig$What", "PROPS", "LSofaDig$What;", .inr (.inl 25)),
  ("SofaDig$What", "FIRST", "LSofaDig$What;", .inr (.inl 26)),
  ("SofaDig$What", "LAST", "LSofaDig$What;", .inr (.inl 27)),
  ("SofaDig$Kind", "EMPIRE", "LSofaDig$Kind;", .inr (.inl 28))]
/-- String constants: class, entry, text, number of its address -/
def sd_strs : List (String × Nat × String × Nat) := [("SofaDig$Scanner", 75, "", 100),
  ("java/util/Arrays", 337, " > ", 101),
  ("SofaDig$Scanner", 104, "()[];,+-*/<>=", 102),
  ("SofaDig$Reader", 125, "seats", 103),
  ("SofaDig$Reader", 132, "layers", 104),
  ("SofaDig$Reader", 141, ";", 105),
  ("SofaDig$Reader", 153, "empire", 106),
  ("jdk/internal/util/ArraysSupport", 92, "unrecognized basic type: ", 107),
  ("SofaDig$Reader", 183, "from", 108),
  ("SofaDig$Reader", 190, "to", 109),
  ("SofaDig$Reader", 157, "coin", 110),
  ("SofaDig$Reader", 201, "in", 111),
  ("SofaDig$Reader", 203, ",", 112),
  ("SofaDig$Reader", 218, "year", 113),
  ("SofaDig$Reader", 220, "of", 114),
  ("SofaDig$Reader", 163, "crumbs", 115),
  ("SofaDig$Reader", 165, "spring", 116),
  ("SofaDig$Reader", 398, "height", 117),
  ("SofaDig$Reader", 400, "(", 118),
  ("SofaDig$Reader", 402, ")", 119),
  ("SofaDig$Reader", 342, "-", 120),
  ("SofaDig$Reader", 361, "*", 121),
  ("SofaDig$Reader", 363, "/", 122),
  ("SofaDig$Reader", 340, "+", 123),
  ("SofaDig$Reader", 247, "when", 124),
  ("SofaDig$Reader", 288, "not", 125),
  ("SofaDig$Reader", 298, "[", 126),
  ("SofaDig$Reader", 300, "]", 127),
  ("SofaDig$Reader", 305, "seen", 128),
  ("SofaDig$Reader", 310, "sure", 129),
  ("SofaDig$Reader", 320, "<>=", 130),
  ("SofaDig$Reader", 286, "and", 131),
  ("SofaDig$Reader", 281, "or", 132),
  ("SofaDig$Scanner", 112, "seats", 133),
  ("SofaDig$Scanner", 114, "layers", 134),
  ("SofaDig$Scanner", 116, "empire", 135),
  ("SofaDig$Scanner", 118, "from", 136),
  ("SofaDig$Scanner", 120, "to", 137),
  ("SofaDig$Scanner", 122, "coin", 138),
  ("SofaDig$Scanner", 124, "crumbs", 139),
  ("SofaDig$Scanner", 126, "spring", 140),
  ("SofaDig$Scanner", 128, "in", 141),
  ("SofaDig$Scanner", 130, "year", 142),
  ("SofaDig$Scanner", 132, "of", 143),
  ("SofaDig$Scanner", 134, "dig", 144),
  ("SofaDig$Scanner", 136, "prop", 145),
  ("SofaDig$Scanner", 138, "free", 146),
  ("SofaDig$Scanner", 140, "when", 147),
  ("SofaDig$Scanner", 142, "day", 148),
  ("SofaDig$Scanner", 144, "found", 149),
  ("SofaDig$Scanner", 146, "slides", 150),
  ("SofaDig$Scanner", 148, "props", 151),
  ("SofaDig$Scanner", 150, "first", 152),
  ("SofaDig$Scanner", 152, "last", 153),
  ("SofaDig$Scanner", 154, "height", 154),
  ("SofaDig$Scanner", 156, "seen", 155),
  ("SofaDig$Scanner", 158, "sure", 156),
  ("SofaDig$Scanner", 160, "not", 157),
  ("SofaDig$Scanner", 162, "and", 158),
  ("SofaDig$Scanner", 164, "or", 159),
  ("SofaDig$Scanner", 166, "min", 160),
  ("SofaDig$Scanner", 168, "max", 161),
  ("SofaDig$Sign", 74, "min", 162),
  ("SofaDig$Sign", 80, "max", 163),
  ("SofaDig$Sign", 62, "*", 164),
  ("SofaDig$Sign", 68, "/", 165),
  ("SofaDig$Sign", 48, "+", 166),
  ("SofaDig$Sign", 56, "-", 167),
  ("SofaDigModel", 448, "seats", 168),
  ("SofaDigModel", 449, "layers", 169),
  ("SofaDigModel", 451, "empire", 170),
  ("SofaDigModel", 452, "from", 171),
  ("SofaDigModel", 453, "to", 172),
  ("SofaDigModel", 455, "coin", 173),
  ("SofaDigModel", 457, "crumbs", 174),
  ("SofaDigModel", 459, "spring", 175),
  ("SofaDigModel", 460, "in", 176),
  ("SofaDigModel", 462, "year", 177),
  ("SofaDigModel", 464, "of", 178),
  ("SofaDigModel", 466, "dig", 179),
  ("SofaDigModel", 468, "prop", 180),
  ("SofaDigModel", 470, "free", 181),
  ("SofaDigModel", 472, "when", 182),
  ("SofaDigModel", 474, "day", 183),
  ("SofaDigModel", 476, "found", 184),
  ("SofaDigModel", 478, "slides", 185),
  ("SofaDigModel", 480, "props", 186),
  ("SofaDigModel", 482, "first", 187),
  ("SofaDigModel", 484, "last", 188),
  ("SofaDigModel", 486, "height", 189),
  ("SofaDigModel", 488, "seen", 190),
  ("SofaDigModel", 489, "sure", 191),
  ("SofaDigModel", 490, "not", 192),
  ("SofaDigModel", 492, "and", 193),
  ("SofaDigModel", 494, "or", 194),
  ("SofaDigModel", 496, "min", 195),
  ("SofaDigModel", 497, "max", 196),
  ("SofaDig$Craft", 39, "dig", 197),
  ("SofaDig$Craft", 47, "prop", 198),
  ("SofaDig$Craft", 53, "free", 199),
  ("SofaDig$What", 52, "day", 200),
  ("SofaDig$What", 65, "found", 201),
  ("SofaDig$What", 71, "slides", 202),
  ("SofaDig$What", 77, "props", 203),
  ("SofaDig$What", 83, "first", 204),
  ("SofaDig$What", 92, "last", 205)]
/-- calls through interfaces: class, named method, chosen method -/
def sd_ifs : List (String × MethodName × MethodName) := [("SofaDig$Several", ⟨"SofaDig$Test", "holds", "(LSofaDig$Sofa;)Z"⟩, ⟨"SofaDig$Several", "holds", "(LSofaDig$Sofa;)Z"⟩),
  ("SofaDig$Denied", ⟨"SofaDig$Test", "holds", "(LSofaDig$Sofa;)Z"⟩, ⟨"SofaDig$Denied", "holds", "(LSofaDig$Sofa;)Z"⟩),
  ("SofaDig$Seen", ⟨"SofaDig$Test", "holds", "(LSofaDig$Sofa;)Z"⟩, ⟨"SofaDig$Seen", "holds", "(LSofaDig$Sofa;)Z"⟩),
  ("SofaDig$Sure", ⟨"SofaDig$Test", "holds", "(LSofaDig$Sofa;)Z"⟩, ⟨"SofaDig$Sure", "holds", "(LSofaDig$Sofa;)Z"⟩),
  ("SofaDig$Compared", ⟨"SofaDig$Test", "holds", "(LSofaDig$Sofa;)Z"⟩, ⟨"SofaDig$Compared", "holds", "(LSofaDig$Sofa;)Z"⟩),
  ("SofaDig$Test$1", ⟨"SofaDig$Test", "holds", "(LSofaDig$Sofa;)Z"⟩, ⟨"SofaDig$Test$1", "holds", "(LSofaDig$Sofa;)Z"⟩),
  ("java/util/ArrayList", ⟨"java/util/List", "get", "(I)Ljava/lang/Object;"⟩, ⟨"java/util/ArrayList", "get", "(I)Ljava/lang/Object;"⟩),
  ("java/util/ArrayList", ⟨"java/util/List", "size", "()I"⟩, ⟨"java/util/ArrayList", "size", "()I"⟩),
  ("java/util/ArrayList", ⟨"java/util/Collection", "toArray", "()[Ljava/lang/Object;"⟩, ⟨"java/util/ArrayList", "toArray", "()[Ljava/lang/Object;"⟩),
  ("java/util/ArrayList$Itr", ⟨"java/util/Iterator", "hasNext", "()Z"⟩, ⟨"java/util/ArrayList$Itr", "hasNext", "()Z"⟩),
  ("java/util/ArrayList$Itr", ⟨"java/util/Iterator", "next", "()Ljava/lang/Object;"⟩, ⟨"java/util/ArrayList$Itr", "next", "()Ljava/lang/Object;"⟩)]
/-- fields of constant objects that are read: Craft.word, What.word, What.kind, Sign.word -/
def sd_cfs : List (String × String × String) := [("SofaDig$Craft", "word", "Ljava/lang/String;"), ("SofaDig$What", "word", "Ljava/lang/String;"), ("SofaDig$What", "kind", "LSofaDig$Kind;"), ("SofaDig$Sign", "word", "Ljava/lang/String;")]
/-- Class objects that are compared -/
def sd_mis : List (String × Nat) := [("[Ljava/lang/Object;", 99)]
/-- casts that fail -/
def sd_ncs : List (String × String) := [("java/util/HashMap$Node", "java/util/HashMap$TreeNode"), ("java/lang/IllegalStateException", "java/lang/IndexOutOfBoundsException")]
def sd_aos : List String := ["java/lang/Object", "java/util/HashMap$Node"]
/-- classes whose objects are made here: all but the enums' -/
def sd_mk (c : Nat) : Bool := decide (c < 24) || decide (41 ≤ c)
def sd_stv (G : sd_G) (x : Int32 ⊕ Nat ⊕ Nat) : Value := match x with
  | .inl i => .int i
  | .inr (.inl k) => .ref (sd_ad G k)
  | .inr (.inr k) => va_rf (sd_aq G k)
/-- words that don't ride in the lists but hold all through -/
def sd_kw (w : Cond) : Bool := match w with
  | .fieldLinkNest _ _ _ _ _ _ => true
  | .methodLinkNest _ _ _ _ => true
  | .castable _ _ => true
  | .declares _ => true
  | .privateMethod _ => true
  | _ => false
def sd_K (G : sd_G) (U : State) : Prop :=
  (∀ c q, sd_cl[c]? = some q → U.vm.findClass q.1 = some ((sd_D G).1 c) ∧ (sd_mk c = true → u_Kn U q.1 q.2.1 q.2.2 ((sd_D G).1 c) ((sd_D G).2 c))) ∧
  (∀ t ty, sd_ty[t]? = some ty → ArrOfT U (sd_A G t) ty ∧ (t < 7 → va_RA U (sd_A G t) ty)) ∧
  (∀ w ∈ lw_tbl, sd_kw w = true → va_Nw w U) ∧
  (∀ q ∈ sd_sts, va_Z q.1 q.2.1 q.2.2.1 (sd_stv G q.2.2.2) (fun a => sd_z G ≤ a) U (sd_O G)) ∧
  (∀ q ∈ sd_strs, vk_R q.1 q.2.1 q.2.2.1 (sd_ad G q.2.2.2) U) ∧
  (∀ q ∈ sd_ifs, va_Fw q.1 q.2.1 q.2.2 U) ∧
  (∀ C ∈ sd_aos, va_AO C U) ∧
  (∀ i q a v, sd_cfs[i]? = some q → sd_cf G i a = some v → va_OF q.1 q.2.1 q.2.2 (.ref v) a (fun a => sd_z G ≤ a) U (sd_O G)) ∧
  (∀ q ∈ sd_mis, va_Mi q.1 (sd_ad G q.2) U) ∧
  (∀ q ∈ sd_ncs, va_Nc q.1 q.2 U) ∧
  vy_Zq Bundle.tN "UNASSIGNED_STACK" Bundle.steD (fun a => sd_z G ≤ a) U (sd_O G) ∧
  vy_Zq Bundle.tN "SUPPRESSED_SENTINEL" Bundle.listD (fun a => sd_z G ≤ a) U (sd_O G)
theorem sd_warmP {x : MethodName} {s U : State} (hW : s.WarmedH U.vm) (hZ : va_Nw (.privateMethod x) s) : va_Nw (.privateMethod x) U := va_tabs rfl (rfl : (s.setVm U.vm).vm = U.vm) (by rw [Cond.privateMethod_setVm hW.alike]; exact hZ)
theorem sd_kw_warm {w : Cond} {s U : State} (hW : s.WarmedH U.vm) (hk : sd_kw w = true) (h : va_Nw w s) : va_Nw w U := by
  cases w <;> first | exact va_Nw.warmF hW h | exact va_Nw.warmM hW h | exact va_Nw.warmC hW h | exact va_Nw.warmD hW h | exact sd_warmP hW h | exact absurd hk (by simp [sd_kw])
theorem sd_ifs_ok : ∀ q ∈ sd_ifs, q.2.1.cls ≠ "java/lang/invoke/MethodHandle" ∧ q.2.1.cls ≠ "java/lang/invoke/VarHandle" := by decide +kernel
theorem sd_K.warm {G : sd_G} {s U : State} (hW : s.WarmedH U.vm) (h : sd_K G s) : sd_K G U := by
  obtain ⟨h1, h2, h3, h4, h5, h6, h7, h8, h9, h10, h11, h12⟩ := h
  refine ⟨fun c q hq => ⟨?_, fun hm => u_Kn_moved hW.alike ((h1 c q hq).2 hm)⟩, fun t ty ht => ⟨arrOfT_moved hW.alike (h2 t ty ht).1, fun z => ((h2 t ty ht).2 z).moved hW.alike⟩, fun w hw hk => sd_kw_warm hW hk (h3 w hw hk), fun q hq => va_Z.moved hW.alike (h4 q hq), fun q hq => vk_R.warm hW (h5 q hq), fun q hq => va_Fw.moved (sd_ifs_ok q hq) hW.alike (h6 q hq), fun C hC => va_AO.moved hW.alike (h7 C hC), fun i q a v hq hv => va_OF.moved hW.alike (h8 i q a v hq hv), fun q hq => va_Mi.moved hW.alike (h9 q hq), fun q hq => va_Nc.moved hW.alike (h10 q hq), vy_Zq.moved hW.alike h11, vy_Zq.moved hW.alike h12⟩
  rw [hW.alike.findClass]
  exact (h1 c q hq).1
theorem sd_aos7 {t : Nat} {E : String} (ht : sd_ty[t]? = some (.object E)) (h : E ∈ sd_aos) : t < 7 := by
  have h10 : t < 11 := (List.getElem?_eq_some_iff.mp ht).1
  rcases (show t < 7 ∨ t = 7 ∨ t = 8 ∨ t = 9 ∨ t = 10 by omega) with z | rfl | rfl | rfl | rfl
  · exact z
  · cases ht; exact absurd h (by decide)
  · cases ht; exact absurd h (by decide)
  · cases ht; exact absurd h (by decide)
  · cases ht

